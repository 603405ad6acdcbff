theorem fX2_36_1 : zFld RX2 36 1 7 := ⟨_, rfl, by decide, _, Or.inl q547, Or.inl rfl⟩
abbrev MX2_hasRiver : zM := (RX2, cX2_hasRiver, 3, (some .boolean), "hasRiver", [])
noncomputable def F_X2_hasRiver (K : zKd) (F : zFd) (o0 : Nat) (a0 : Int32) (a1 : Int32) (I : zId) : Option (Int32) := zka K o0 1 (fun n_1 => zg (decide (600 ≤ o0)) (zb1 (F o0 7) (fun o_4 => zka K o_4 64 (fun n_6 => zg (zin (((8 : Int32) * a0) + a1) n_6) (if (I o_4 ((((8 : Int32) * a0) + a1).toNatClampNeg)) ≤ 0 then some 0 else some 1)))))
set_option maxHeartbeats 1000000 in
theorem C_X2_hasRiver {l : Launch} {G : zGt} (htr : l.stackTraces = false) {K : zKd} {F : zFd} {L : zLd} {o0 : Nat} {a0 : Int32} {a1 : Int32} {I : zId} {r : Int32} (hF : F_X2_hasRiver K F o0 a0 a1 I = some r) : zMet l G yX2_hasRiver (ws_ yX2_hasRiver cX2_hasRiver 3 (some .boolean)) 0 0 0 0 [.ref o0, .int a0, .int a1] K F I L (zQe (.inl (some (.int r))) K F I L) := by
  refine zMet.of (by decide +kernel) htr (Nat.le_of_ble_eq_true rfl) ?_
  change zW l G MX2_hasRiver 0 0 0 0 0 [(0, .ref o0), (1, .int a0), (2, .int a1)] [] K F I L (zQe (.inl (some (.int r))) K F I L)
  unfold F_X2_hasRiver at hF
  refine z_aload_n (n := 1) dX2_hasRiver_0 rfl 0 rfl rfl ?_
  obtain ⟨n_1, hk_2, hF⟩ := zka_some hF
  obtain ⟨hb_3, hF⟩ := zg_some hF
  obtain ⟨o_4, hr_5, hF⟩ := zb1_some hF
  refine z_getRS (n := 4) dX2_hasRiver_1 rfl zok1 fX2_36_1 rfl hk_2 (Or.inl (zbig hb_3)) hr_5 ?_
  refine z_bipush (n := 6) (v := 8) dX2_hasRiver_4 rfl (by decide) ?_
  refine z_iload_n (n := 7) dX2_hasRiver_6 rfl 1 rfl rfl ?_
  refine z_imul (n := 8) dX2_hasRiver_7 rfl ?_
  refine z_iload_n (n := 9) dX2_hasRiver_8 rfl 2 rfl rfl ?_
  refine z_iadd (n := 10) dX2_hasRiver_9 rfl ?_
  obtain ⟨n_6, hk_7, hF⟩ := zka_some hF
  obtain ⟨h_8, hF⟩ := zg_some hF
  refine z_ialdK (n := 11) ((((8 : Int32) * a0) + a1).toNatClampNeg) rfl dX2_hasRiver_10 rfl hk_7 (zin_ok h_8) ?_
  refine z_if_le (n := 14) (t := 18) dX2_hasRiver_11 rfl (by decide) (fun hc => ?_) (fun hc => ?_)
  · replace hF := (if_pos hc).symm.trans hF
    refine z_iconst (n := 19) (v := 0) dX2_hasRiver_18 rfl (by decide) ?_
    have hF := Option.some.inj hF; subst hF
    exact z_iret dX2_hasRiver_19 rfl rfl ⟨rfl, rfl, rfl, rfl, rfl⟩
  · replace hF := (if_neg hc).symm.trans hF
    refine z_iconst (n := 15) (v := 1) dX2_hasRiver_14 rfl (by decide) ?_
    refine z_goto (t := 19) dX2_hasRiver_15 (by decide) ?_
    have hF := Option.some.inj hF; subst hF
    exact z_iret dX2_hasRiver_19 rfl rfl ⟨rfl, rfl, rfl, rfl, rfl⟩
theorem fX2_40_1 : zFld RX2 40 1 8 := ⟨_, rfl, by decide, _, Or.inl q549, Or.inl rfl⟩
abbrev MX2_far : zM := (RX2, cX2_far, 3, (some .int), "far", [])
noncomputable def F_X2_far (K : zKd) (F : zFd) (o0 : Nat) (a0 : Int32) (a1 : Int32) (I : zId) : Option (Int32) := zka K o0 1 (fun n_1 => zg (decide (600 ≤ o0)) (zb1 (F o0 8) (fun o_4 => zka K o_4 64 (fun n_6 => zg (zin (((8 : Int32) * a0) + a1) n_6) (some (I o_4 ((((8 : Int32) * a0) + a1).toNatClampNeg)))))))
set_option maxHeartbeats 1000000 in
theorem C_X2_far {l : Launch} {G : zGt} (htr : l.stackTraces = false) {K : zKd} {F : zFd} {L : zLd} {o0 : Nat} {a0 : Int32} {a1 : Int32} {I : zId} {r : Int32} (hF : F_X2_far K F o0 a0 a1 I = some r) : zMet l G yX2_far (ws_ yX2_far cX2_far 3 (some .int)) 0 0 0 0 [.ref o0, .int a0, .int a1] K F I L (zQe (.inl (some (.int r))) K F I L) := by
  refine zMet.of (by decide +kernel) htr (Nat.le_of_ble_eq_true rfl) ?_
  change zW l G MX2_far 0 0 0 0 0 [(0, .ref o0), (1, .int a0), (2, .int a1)] [] K F I L (zQe (.inl (some (.int r))) K F I L)
  unfold F_X2_far at hF
  refine z_aload_n (n := 1) dX2_far_0 rfl 0 rfl rfl ?_
  obtain ⟨n_1, hk_2, hF⟩ := zka_some hF
  obtain ⟨hb_3, hF⟩ := zg_some hF
  obtain ⟨o_4, hr_5, hF⟩ := zb1_some hF
  refine z_getRS (n := 4) dX2_far_1 rfl zok1 fX2_40_1 rfl hk_2 (Or.inl (zbig hb_3)) hr_5 ?_
  refine z_bipush (n := 6) (v := 8) dX2_far_4 rfl (by decide) ?_
  refine z_iload_n (n := 7) dX2_far_6 rfl 1 rfl rfl ?_
  refine z_imul (n := 8) dX2_far_7 rfl ?_
  refine z_iload_n (n := 9) dX2_far_8 rfl 2 rfl rfl ?_
  refine z_iadd (n := 10) dX2_far_9 rfl ?_
  obtain ⟨n_6, hk_7, hF⟩ := zka_some hF
  obtain ⟨h_8, hF⟩ := zg_some hF
  refine z_ialdK (n := 11) ((((8 : Int32) * a0) + a1).toNatClampNeg) rfl dX2_far_10 rfl hk_7 (zin_ok h_8) ?_
  have hF := Option.some.inj hF; subst hF
  exact z_iret dX2_far_11 rfl rfl ⟨rfl, rfl, rfl, rfl, rfl⟩
theorem fX2_26_1 : zFld RX2 26 1 4 := ⟨_, rfl, by decide, _, Or.inl q536, Or.inl rfl⟩
theorem hcee_J2_size : zCee yJ2_size RJ2 0 := ⟨rfl, by decide +kernel, by decide +kernel, by decide +kernel⟩
theorem hcee_X2_far : zCee yX2_far RX2 2 := ⟨rfl, by decide +kernel, by decide +kernel, by decide +kernel⟩
theorem hcee_X2_hasRiver : zCee yX2_hasRiver RX2 2 := ⟨rfl, by decide +kernel, by decide +kernel, by decide +kernel⟩
abbrev MX2_measures : zM := (RX2, cX2_measures, 5, none, "measures", [])
noncomputable def F_X2_measures_L17 (K : zKd) (F : zFd) (o0 : Nat) (x_9 : Int32) (v2_10 : Int32) (v3_12 : Int32) (I_13 : zId) : Option ((Int32 × zId) ⊕ (zId)) := if x_9 ≤ v3_12 then some (.inr (I_13)) else zka K o0 1 (fun n_14 => zg (decide (600 ≤ o0)) (zb1 (F o0 8) (fun o_17 => if ¬ v2_10 = v3_12 then zb1 (F_X2_hasRiver K F o0 v2_10 v3_12 I_13) (fun x_20 => if x_20 = 0 then zka K o_17 64 (fun n_21 => zg (zin (((8 : Int32) * v2_10) + v3_12) n_21) (zg (decide (600 ≤ o_17)) (zlet (zu I_13 o_17 ((((8 : Int32) * v2_10) + v3_12).toNatClampNeg) 100000) (fun I_25 => zlet (v3_12 + 1) (fun v3_27 => some (.inl (v3_27, I_25))))))) else zb1 (F o0 7) (fun o_29 => zka K o_29 64 (fun n_31 => zg (zin (((8 : Int32) * v2_10) + v3_12) n_31) (zka K o_17 64 (fun n_34 => zg (zin (((8 : Int32) * v2_10) + v3_12) n_34) (zg (decide (600 ≤ o_17)) (zlet (zu I_13 o_17 ((((8 : Int32) * v2_10) + v3_12).toNatClampNeg) (I_13 o_29 ((((8 : Int32) * v2_10) + v3_12).toNatClampNeg))) (fun I_38 => zlet (v3_12 + 1) (fun v3_40 => some (.inl (v3_40, I_38))))))))))) else zka K o_17 64 (fun n_42 => zg (zin (((8 : Int32) * v2_10) + v3_12) n_42) (zg (decide (600 ≤ o_17)) (zlet (zu I_13 o_17 ((((8 : Int32) * v2_10) + v3_12).toNatClampNeg) 0) (fun I_46 => zlet (v3_12 + 1) (fun v3_48 => some (.inl (v3_48, I_46))))))))))
noncomputable def F_X2_measures_L10 (K : zKd) (F : zFd) (o0 : Nat) (x_9 : Int32) (v2_10 : Int32) (I_11 : zId) : Option ((Int32 × zId) ⊕ (zId)) := if x_9 ≤ v2_10 then some (.inr (I_11)) else zb1 (zloop (fun s : Int32 × zId => F_X2_measures_L17 K F o0 x_9 v2_10 s.1 s.2) (0, I_11)) (fun I_50 => zlet (v2_10 + 1) (fun v2_51 => some (.inl (v2_51, I_50))))
noncomputable def F_X2_measures_L96 (K : zKd) (F : zFd) (o0 : Nat) (x_9 : Int32) (v2_57 : Int32) (v3_59 : Int32) (v4_61 : Int32) (I_62 : zId) : Option ((Int32 × zId) ⊕ (zId)) := if x_9 ≤ v4_61 then some (.inr (I_62)) else zka K o0 1 (fun n_63 => zg (decide (600 ≤ o0)) (zb1 (F o0 8) (fun o_66 => zb1 (F_X2_far K F o0 v3_59 v4_61 I_62) (fun x_69 => zb1 (F_X2_far K F o0 v3_59 v2_57 I_62) (fun x_71 => zb1 (F_X2_far K F o0 v2_57 v4_61 I_62) (fun x_73 => zka K o_66 64 (fun n_74 => zg (zin (((8 : Int32) * v3_59) + v4_61) n_74) (zg (decide (600 ≤ o_66)) (zlet (zu I_62 o_66 ((((8 : Int32) * v3_59) + v4_61).toNatClampNeg) (zmin x_69 (x_71 + x_73))) (fun I_78 => zlet (v4_61 + 1) (fun v4_80 => some (.inl (v4_80, I_78)))))))))))))
noncomputable def F_X2_measures_L88 (K : zKd) (F : zFd) (o0 : Nat) (x_9 : Int32) (v2_57 : Int32) (v3_59 : Int32) (I_60 : zId) : Option ((Int32 × zId) ⊕ (zId)) := if x_9 ≤ v3_59 then some (.inr (I_60)) else zb1 (zloop (fun s : Int32 × zId => F_X2_measures_L96 K F o0 x_9 v2_57 v3_59 s.1 s.2) (0, I_60)) (fun I_82 => zlet (v3_59 + 1) (fun v3_83 => some (.inl (v3_83, I_82))))
noncomputable def F_X2_measures_L81 (K : zKd) (F : zFd) (o0 : Nat) (x_9 : Int32) (v2_57 : Int32) (I_58 : zId) : Option ((Int32 × zId) ⊕ (zId)) := if x_9 ≤ v2_57 then some (.inr (I_58)) else zb1 (zloop (fun s : Int32 × zId => F_X2_measures_L88 K F o0 x_9 v2_57 s.1 s.2) (0, I_58)) (fun I_88 => zlet (v2_57 + 1) (fun v2_89 => some (.inl (v2_89, I_88))))
noncomputable def F_X2_measures (K : zKd) (F : zFd) (o0 : Nat) (I : zId) : Option (zId) := zka K o0 1 (fun n_1 => zg (decide (600 ≤ o0)) (zb1 (F o0 4) (fun o_4 => zka K o_4 2 (fun n_6 => zb1 (F_J2_size K F o_4 I) (fun x_9 => zb1 (zloop (fun s : Int32 × zId => F_X2_measures_L10 K F o0 x_9 s.1 s.2) (0, I)) (fun I_56 => zb1 (zloop (fun s : Int32 × zId => F_X2_measures_L81 K F o0 x_9 s.1 s.2) (0, I_56)) (fun I_94 => some I_94)))))))
set_option maxHeartbeats 1000000 in
theorem W_X2_measures_L17 {l : Launch} {G : zGt} (htr : l.stackTraces = false) {K : zKd} {F : zFd} {L : zLd} {Q : zQt} {o0 : Nat} {x_9 : Int32} {v2_10 : Int32} {v3_12 : Int32} {I_13 : zId} {r : (Int32 × zId) ⊕ (zId)} (hF : F_X2_measures_L17 K F o0 x_9 v2_10 v3_12 I_13 = some r) (kl : ∀ (z0 : Int32) (z1 : zId), r = .inl (z0, z1) → zW l G MX2_measures 1 24 0 0 17 [(0, .ref o0), (1, .int x_9), (2, .int v2_10), (3, .int z0)] [] K F z1 L Q) (kx : ∀ (y0 : zId), r = .inr y0 → zW l G MX2_measures 1 24 0 0 73 [(0, .ref o0), (1, .int x_9), (2, .int v2_10)] [] K F y0 L Q)  : zW l G MX2_measures 1 24 0 0 17 [(0, .ref o0), (1, .int x_9), (2, .int v2_10), (3, .int v3_12)] [] K F I_13 L Q := by
  unfold F_X2_measures_L17 at hF
  refine z_iload_n (n := 18) dX2_measures_17 rfl 3 rfl rfl ?_
  refine z_iload_n (n := 19) dX2_measures_18 rfl 1 rfl rfl ?_
  refine z_icmp_ge (n := 22) (t := 73) dX2_measures_19 rfl (by decide) (fun hc => ?_) (fun hc => ?_)
  · replace hF := (if_pos hc).symm.trans hF
    refine z_sub [0, 1, 2] rfl ?_
    have hF := Option.some.inj hF; subst hF
    exact kx I_13 rfl
  · replace hF := (if_neg hc).symm.trans hF
    refine z_aload_n (n := 23) dX2_measures_22 rfl 0 rfl rfl ?_
    obtain ⟨n_14, hk_15, hF⟩ := zka_some hF
    obtain ⟨hb_16, hF⟩ := zg_some hF
    obtain ⟨o_17, hr_18, hF⟩ := zb1_some hF
    refine z_getRS (n := 26) dX2_measures_23 rfl zok1 fX2_40_1 rfl hk_15 (Or.inl (zbig hb_16)) hr_18 ?_
    refine z_bipush (n := 28) (v := 8) dX2_measures_26 rfl (by decide) ?_
    refine z_iload_n (n := 29) dX2_measures_28 rfl 2 rfl rfl ?_
    refine z_imul (n := 30) dX2_measures_29 rfl ?_
    refine z_iload_n (n := 31) dX2_measures_30 rfl 3 rfl rfl ?_
    refine z_iadd (n := 32) dX2_measures_31 rfl ?_
    refine z_iload_n (n := 33) dX2_measures_32 rfl 2 rfl rfl ?_
    refine z_iload_n (n := 34) dX2_measures_33 rfl 3 rfl rfl ?_
    refine z_icmp_ne (n := 37) (t := 41) dX2_measures_34 rfl (by decide) (fun hc => ?_) (fun hc => ?_)
    · replace hF := (if_pos hc).symm.trans hF
      refine z_aload_n (n := 42) dX2_measures_41 rfl 0 rfl rfl ?_
      refine z_iload_n (n := 43) dX2_measures_42 rfl 2 rfl rfl ?_
      refine z_iload_n (n := 44) dX2_measures_43 rfl 3 rfl rfl ?_
      obtain ⟨x_20, c_19, hF⟩ := zb1_some hF
      refine z_cV (n := 47) (st := [.int (((8 : Int32) * v2_10) + v3_12), .ref o_17]) (C_X2_hasRiver htr c_19) dX2_measures_44 rfl (lw_V q1347 q1159 q1160 q106 q1161) hcee_X2_hasRiver rfl (by decide) hk_15 rfl rfl rfl (Nat.le_of_ble_eq_true rfl) (Nat.le_refl _) (Nat.le_refl _) ?_
      refine z_if_eq (n := 50) (t := 64) dX2_measures_47 rfl (by decide) (fun hc => ?_) (fun hc => ?_)
      · replace hF := (if_pos hc).symm.trans hF
        refine z_ldc (n := 66) dX2_measures_64 rfl q1348 ?_
        obtain ⟨n_21, hk_22, hF⟩ := zka_some hF
        obtain ⟨h_23, hF⟩ := zg_some hF
        obtain ⟨hb_24, hF⟩ := zg_some hF
        obtain ⟨I_25, e_26, hF⟩ := zlet_ob hF
        refine z_iastK (n := 67) ((((8 : Int32) * v2_10) + v3_12).toNatClampNeg) rfl dX2_measures_66 rfl hk_22 (zbig hb_24) (zin_ok h_23) e_26 ?_
        obtain ⟨v3_27, e_28, hF⟩ := zlet_ob hF
        refine z_iincE (n := 70) (w := 1) (v := v3_27) (lv' := [(3, .int v3_27), (0, .ref o0), (1, .int x_9), (2, .int v2_10)]) dX2_measures_67 rfl 3 rfl (by decide) e_28 (by decide) rfl ?_
        refine z_goto (t := 17) dX2_measures_70 (by decide) ?_
        refine z_sub [1, 2, 3, 0] rfl ?_
        have hF := Option.some.inj hF; subst hF
        exact kl v3_27 I_25 rfl
      · replace hF := (if_neg hc).symm.trans hF
        refine z_aload_n (n := 51) dX2_measures_50 rfl 0 rfl rfl ?_
        obtain ⟨o_29, hr_30, hF⟩ := zb1_some hF
        refine z_getRS (n := 54) dX2_measures_51 rfl zok1 fX2_36_1 rfl hk_15 (Or.inl (zbig hb_16)) hr_30 ?_
        refine z_bipush (n := 56) (v := 8) dX2_measures_54 rfl (by decide) ?_
        refine z_iload_n (n := 57) dX2_measures_56 rfl 2 rfl rfl ?_
        refine z_imul (n := 58) dX2_measures_57 rfl ?_
        refine z_iload_n (n := 59) dX2_measures_58 rfl 3 rfl rfl ?_
        refine z_iadd (n := 60) dX2_measures_59 rfl ?_
        obtain ⟨n_31, hk_32, hF⟩ := zka_some hF
        obtain ⟨h_33, hF⟩ := zg_some hF
        refine z_ialdK (n := 61) ((((8 : Int32) * v2_10) + v3_12).toNatClampNeg) rfl dX2_measures_60 rfl hk_32 (zin_ok h_33) ?_
        refine z_goto (t := 66) dX2_measures_61 (by decide) ?_
        obtain ⟨n_34, hk_35, hF⟩ := zka_some hF
        obtain ⟨h_36, hF⟩ := zg_some hF
        obtain ⟨hb_37, hF⟩ := zg_some hF
        obtain ⟨I_38, e_39, hF⟩ := zlet_ob hF
        refine z_iastK (n := 67) ((((8 : Int32) * v2_10) + v3_12).toNatClampNeg) rfl dX2_measures_66 rfl hk_35 (zbig hb_37) (zin_ok h_36) e_39 ?_
        obtain ⟨v3_40, e_41, hF⟩ := zlet_ob hF
        refine z_iincE (n := 70) (w := 1) (v := v3_40) (lv' := [(3, .int v3_40), (0, .ref o0), (1, .int x_9), (2, .int v2_10)]) dX2_measures_67 rfl 3 rfl (by decide) e_41 (by decide) rfl ?_
        refine z_goto (t := 17) dX2_measures_70 (by decide) ?_
        refine z_sub [1, 2, 3, 0] rfl ?_
        have hF := Option.some.inj hF; subst hF
        exact kl v3_40 I_38 rfl
    · replace hF := (if_neg hc).symm.trans hF
      refine z_iconst (n := 38) (v := 0) dX2_measures_37 rfl (by decide) ?_
      refine z_goto (t := 66) dX2_measures_38 (by decide) ?_
      obtain ⟨n_42, hk_43, hF⟩ := zka_some hF
      obtain ⟨h_44, hF⟩ := zg_some hF
      obtain ⟨hb_45, hF⟩ := zg_some hF
      obtain ⟨I_46, e_47, hF⟩ := zlet_ob hF
      refine z_iastK (n := 67) ((((8 : Int32) * v2_10) + v3_12).toNatClampNeg) rfl dX2_measures_66 rfl hk_43 (zbig hb_45) (zin_ok h_44) e_47 ?_
      obtain ⟨v3_48, e_49, hF⟩ := zlet_ob hF
      refine z_iincE (n := 70) (w := 1) (v := v3_48) (lv' := [(3, .int v3_48), (0, .ref o0), (1, .int x_9), (2, .int v2_10)]) dX2_measures_67 rfl 3 rfl (by decide) e_49 (by decide) rfl ?_
      refine z_goto (t := 17) dX2_measures_70 (by decide) ?_
      refine z_sub [1, 2, 3, 0] rfl ?_
      have hF := Option.some.inj hF; subst hF
      exact kl v3_48 I_46 rfl
set_option maxHeartbeats 1000000 in
theorem W_X2_measures_L10 {l : Launch} {G : zGt} (htr : l.stackTraces = false) {K : zKd} {F : zFd} {L : zLd} {Q : zQt} {o0 : Nat} {x_9 : Int32} {v2_10 : Int32} {I_11 : zId} {r : (Int32 × zId) ⊕ (zId)} (hF : F_X2_measures_L10 K F o0 x_9 v2_10 I_11 = some r) (kl : ∀ (z0 : Int32) (z1 : zId), r = .inl (z0, z1) → zW l G MX2_measures 1 24 0 0 10 [(0, .ref o0), (1, .int x_9), (2, .int z0)] [] K F z1 L Q) (kx : ∀ (y0 : zId), r = .inr y0 → zW l G MX2_measures 1 24 0 0 79 [(0, .ref o0), (1, .int x_9)] [] K F y0 L Q)  : zW l G MX2_measures 1 24 0 0 10 [(0, .ref o0), (1, .int x_9), (2, .int v2_10)] [] K F I_11 L Q := by
  unfold F_X2_measures_L10 at hF
  refine z_iload_n (n := 11) dX2_measures_10 rfl 2 rfl rfl ?_
  refine z_iload_n (n := 12) dX2_measures_11 rfl 1 rfl rfl ?_
  refine z_icmp_ge (n := 15) (t := 79) dX2_measures_12 rfl (by decide) (fun hc => ?_) (fun hc => ?_)
  · replace hF := (if_pos hc).symm.trans hF
    refine z_sub [0, 1] rfl ?_
    have hF := Option.some.inj hF; subst hF
    exact kx I_11 rfl
  · replace hF := (if_neg hc).symm.trans hF
    refine z_iconst (n := 16) (v := 0) dX2_measures_15 rfl (by decide) ?_
    refine z_istore_nE (n := 17) (lv' := [(3, .int 0), (0, .ref o0), (1, .int x_9), (2, .int v2_10)]) dX2_measures_16 rfl rfl rfl (by decide) rfl ?_
    refine z_sub [1, 2, 3, 0] rfl ?_
    obtain ⟨t_54, e_53, hF⟩ := zb1_some hF
    obtain ⟨I_50, rfl⟩ : ∃ z, z = t_54 := ⟨_, rfl⟩
    have H_55 : zW l G MX2_measures 1 24 0 0 73 [(0, .ref o0), (1, .int x_9), (2, .int v2_10)] [] K F I_50 L Q := by
      obtain ⟨v2_51, e_52, hF⟩ := zlet_ob hF
      refine z_iincE (n := 76) (w := 1) (v := v2_51) (lv' := [(2, .int v2_51), (0, .ref o0), (1, .int x_9)]) dX2_measures_73 rfl 2 rfl (by decide) e_52 (by decide) rfl ?_
      refine z_goto (t := 10) dX2_measures_76 (by decide) ?_
      refine z_sub [1, 2, 0] rfl ?_
      have hF := Option.some.inj hF; subst hF
      exact kl v2_51 I_50 rfl
    refine zloop_ind (P := fun s : Int32 × zId => zW l G MX2_measures 1 24 0 0 17 [(0, .ref o0), (1, .int x_9), (2, .int v2_10), (3, .int s.1)] [] K F s.2 L Q) (fun s r hb kl kr => ?_) e_53
    exact W_X2_measures_L17 (o0 := o0) htr hb (fun z0 z1 e => kl _ e) (fun y0 e => by cases kr _ e; exact H_55)
set_option maxHeartbeats 1000000 in
theorem W_X2_measures_L96 {l : Launch} {G : zGt} (htr : l.stackTraces = false) {K : zKd} {F : zFd} {L : zLd} {Q : zQt} {o0 : Nat} {x_9 : Int32} {v2_57 : Int32} {v3_59 : Int32} {v4_61 : Int32} {I_62 : zId} {r : (Int32 × zId) ⊕ (zId)} (hF : F_X2_measures_L96 K F o0 x_9 v2_57 v3_59 v4_61 I_62 = some r) (kl : ∀ (z0 : Int32) (z1 : zId), r = .inl (z0, z1) → zW l G MX2_measures 1 24 0 0 96 [(0, .ref o0), (1, .int x_9), (2, .int v2_57), (3, .int v3_59), (4, .int z0)] [] K F z1 L Q) (kx : ∀ (y0 : zId), r = .inr y0 → zW l G MX2_measures 1 24 0 0 144 [(0, .ref o0), (1, .int x_9), (2, .int v2_57), (3, .int v3_59)] [] K F y0 L Q)  : zW l G MX2_measures 1 24 0 0 96 [(0, .ref o0), (1, .int x_9), (2, .int v2_57), (3, .int v3_59), (4, .int v4_61)] [] K F I_62 L Q := by
  unfold F_X2_measures_L96 at hF
  refine z_iload (n := 98) dX2_measures_96 rfl 4 rfl ?_
  refine z_iload_n (n := 99) dX2_measures_98 rfl 1 rfl rfl ?_
  refine z_icmp_ge (n := 102) (t := 144) dX2_measures_99 rfl (by decide) (fun hc => ?_) (fun hc => ?_)
  · replace hF := (if_pos hc).symm.trans hF
    refine z_sub [0, 1, 2, 3] rfl ?_
    have hF := Option.some.inj hF; subst hF
    exact kx I_62 rfl
  · replace hF := (if_neg hc).symm.trans hF
    refine z_aload_n (n := 103) dX2_measures_102 rfl 0 rfl rfl ?_
    obtain ⟨n_63, hk_64, hF⟩ := zka_some hF
    obtain ⟨hb_65, hF⟩ := zg_some hF
    obtain ⟨o_66, hr_67, hF⟩ := zb1_some hF
    refine z_getRS (n := 106) dX2_measures_103 rfl zok1 fX2_40_1 rfl hk_64 (Or.inl (zbig hb_65)) hr_67 ?_
    refine z_bipush (n := 108) (v := 8) dX2_measures_106 rfl (by decide) ?_
    refine z_iload_n (n := 109) dX2_measures_108 rfl 3 rfl rfl ?_
    refine z_imul (n := 110) dX2_measures_109 rfl ?_
    refine z_iload (n := 112) dX2_measures_110 rfl 4 rfl ?_
    refine z_iadd (n := 113) dX2_measures_112 rfl ?_
    refine z_aload_n (n := 114) dX2_measures_113 rfl 0 rfl rfl ?_
    refine z_iload_n (n := 115) dX2_measures_114 rfl 3 rfl rfl ?_
    refine z_iload (n := 117) dX2_measures_115 rfl 4 rfl ?_
    obtain ⟨x_69, c_68, hF⟩ := zb1_some hF
    refine z_cV (n := 120) (st := [.int (((8 : Int32) * v3_59) + v4_61), .ref o_66]) (C_X2_far htr c_68) dX2_measures_117 rfl (lw_V q1349 q1350 q1351 q106 q1352) hcee_X2_far rfl (by decide) hk_64 rfl rfl rfl (Nat.le_of_ble_eq_true rfl) (Nat.le_refl _) (Nat.le_refl _) ?_
    refine z_aload_n (n := 121) dX2_measures_120 rfl 0 rfl rfl ?_
    refine z_iload_n (n := 122) dX2_measures_121 rfl 3 rfl rfl ?_
    refine z_iload_n (n := 123) dX2_measures_122 rfl 2 rfl rfl ?_
    obtain ⟨x_71, c_70, hF⟩ := zb1_some hF
    refine z_cV (n := 126) (st := [.int x_69, .int (((8 : Int32) * v3_59) + v4_61), .ref o_66]) (C_X2_far htr c_70) dX2_measures_123 rfl (lw_V q1349 q1350 q1351 q106 q1352) hcee_X2_far rfl (by decide) hk_64 rfl rfl rfl (Nat.le_of_ble_eq_true rfl) (Nat.le_refl _) (Nat.le_refl _) ?_
    refine z_aload_n (n := 127) dX2_measures_126 rfl 0 rfl rfl ?_
    refine z_iload_n (n := 128) dX2_measures_127 rfl 2 rfl rfl ?_
    refine z_iload (n := 130) dX2_measures_128 rfl 4 rfl ?_
    obtain ⟨x_73, c_72, hF⟩ := zb1_some hF
    refine z_cV (n := 133) (st := [.int x_71, .int x_69, .int (((8 : Int32) * v3_59) + v4_61), .ref o_66]) (C_X2_far htr c_72) dX2_measures_130 rfl (lw_V q1349 q1350 q1351 q106 q1352) hcee_X2_far rfl (by decide) hk_64 rfl rfl rfl (Nat.le_of_ble_eq_true rfl) (Nat.le_refl _) (Nat.le_refl _) ?_
    refine z_iadd (n := 134) dX2_measures_133 rfl ?_
    refine z_min (n := 137) dX2_measures_134 rfl q1353 q290 q119 q291 (by decide) (Nat.le_of_ble_eq_true rfl) ?_
    obtain ⟨n_74, hk_75, hF⟩ := zka_some hF
    obtain ⟨h_76, hF⟩ := zg_some hF
    obtain ⟨hb_77, hF⟩ := zg_some hF
    obtain ⟨I_78, e_79, hF⟩ := zlet_ob hF
    refine z_iastK (n := 138) ((((8 : Int32) * v3_59) + v4_61).toNatClampNeg) rfl dX2_measures_137 rfl hk_75 (zbig hb_77) (zin_ok h_76) e_79 ?_
    obtain ⟨v4_80, e_81, hF⟩ := zlet_ob hF
    refine z_iincE (n := 141) (w := 1) (v := v4_80) (lv' := [(4, .int v4_80), (0, .ref o0), (1, .int x_9), (2, .int v2_57), (3, .int v3_59)]) dX2_measures_138 rfl 4 rfl (by decide) e_81 (by decide) rfl ?_
    refine z_goto (t := 96) dX2_measures_141 (by decide) ?_
    refine z_sub [1, 2, 3, 4, 0] rfl ?_
    have hF := Option.some.inj hF; subst hF
    exact kl v4_80 I_78 rfl
set_option maxHeartbeats 1000000 in
theorem W_X2_measures_L88 {l : Launch} {G : zGt} (htr : l.stackTraces = false) {K : zKd} {F : zFd} {L : zLd} {Q : zQt} {o0 : Nat} {x_9 : Int32} {v2_57 : Int32} {v3_59 : Int32} {I_60 : zId} {r : (Int32 × zId) ⊕ (zId)} (hF : F_X2_measures_L88 K F o0 x_9 v2_57 v3_59 I_60 = some r) (kl : ∀ (z0 : Int32) (z1 : zId), r = .inl (z0, z1) → zW l G MX2_measures 1 24 0 0 88 [(0, .ref o0), (1, .int x_9), (2, .int v2_57), (3, .int z0)] [] K F z1 L Q) (kx : ∀ (y0 : zId), r = .inr y0 → zW l G MX2_measures 1 24 0 0 150 [(0, .ref o0), (1, .int x_9), (2, .int v2_57)] [] K F y0 L Q)  : zW l G MX2_measures 1 24 0 0 88 [(0, .ref o0), (1, .int x_9), (2, .int v2_57), (3, .int v3_59)] [] K F I_60 L Q := by
  unfold F_X2_measures_L88 at hF
  refine z_iload_n (n := 89) dX2_measures_88 rfl 3 rfl rfl ?_
  refine z_iload_n (n := 90) dX2_measures_89 rfl 1 rfl rfl ?_
  refine z_icmp_ge (n := 93) (t := 150) dX2_measures_90 rfl (by decide) (fun hc => ?_) (fun hc => ?_)
  · replace hF := (if_pos hc).symm.trans hF
    refine z_sub [0, 1, 2] rfl ?_
    have hF := Option.some.inj hF; subst hF
    exact kx I_60 rfl
  · replace hF := (if_neg hc).symm.trans hF
    refine z_iconst (n := 94) (v := 0) dX2_measures_93 rfl (by decide) ?_
    refine z_istoreE (n := 96) (lv' := [(4, .int 0), (0, .ref o0), (1, .int x_9), (2, .int v2_57), (3, .int v3_59)]) dX2_measures_94 rfl rfl (by decide) rfl ?_
    refine z_sub [1, 2, 3, 4, 0] rfl ?_
    obtain ⟨t_86, e_85, hF⟩ := zb1_some hF
    obtain ⟨I_82, rfl⟩ : ∃ z, z = t_86 := ⟨_, rfl⟩
    have H_87 : zW l G MX2_measures 1 24 0 0 144 [(0, .ref o0), (1, .int x_9), (2, .int v2_57), (3, .int v3_59)] [] K F I_82 L Q := by
      obtain ⟨v3_83, e_84, hF⟩ := zlet_ob hF
      refine z_iincE (n := 147) (w := 1) (v := v3_83) (lv' := [(3, .int v3_83), (0, .ref o0), (1, .int x_9), (2, .int v2_57)]) dX2_measures_144 rfl 3 rfl (by decide) e_84 (by decide) rfl ?_
      refine z_goto (t := 88) dX2_measures_147 (by decide) ?_
      refine z_sub [1, 2, 3, 0] rfl ?_
      have hF := Option.some.inj hF; subst hF
      exact kl v3_83 I_82 rfl
    refine zloop_ind (P := fun s : Int32 × zId => zW l G MX2_measures 1 24 0 0 96 [(0, .ref o0), (1, .int x_9), (2, .int v2_57), (3, .int v3_59), (4, .int s.1)] [] K F s.2 L Q) (fun s r hb kl kr => ?_) e_85
    exact W_X2_measures_L96 (o0 := o0) htr hb (fun z0 z1 e => kl _ e) (fun y0 e => by cases kr _ e; exact H_87)
set_option maxHeartbeats 1000000 in
theorem W_X2_measures_L81 {l : Launch} {G : zGt} (htr : l.stackTraces = false) {K : zKd} {F : zFd} {L : zLd} {Q : zQt} {o0 : Nat} {x_9 : Int32} {v2_57 : Int32} {I_58 : zId} {r : (Int32 × zId) ⊕ (zId)} (hF : F_X2_measures_L81 K F o0 x_9 v2_57 I_58 = some r) (kl : ∀ (z0 : Int32) (z1 : zId), r = .inl (z0, z1) → zW l G MX2_measures 1 24 0 0 81 [(0, .ref o0), (1, .int x_9), (2, .int z0)] [] K F z1 L Q) (kx : ∀ (y0 : zId), r = .inr y0 → zW l G MX2_measures 1 24 0 0 156 [] [] K F y0 L Q)  : zW l G MX2_measures 1 24 0 0 81 [(0, .ref o0), (1, .int x_9), (2, .int v2_57)] [] K F I_58 L Q := by
  unfold F_X2_measures_L81 at hF
  refine z_iload_n (n := 82) dX2_measures_81 rfl 2 rfl rfl ?_
  refine z_iload_n (n := 83) dX2_measures_82 rfl 1 rfl rfl ?_
  refine z_icmp_ge (n := 86) (t := 156) dX2_measures_83 rfl (by decide) (fun hc => ?_) (fun hc => ?_)
  · replace hF := (if_pos hc).symm.trans hF
    refine z_sub [] rfl ?_
    have hF := Option.some.inj hF; subst hF
    exact kx I_58 rfl
  · replace hF := (if_neg hc).symm.trans hF
    refine z_iconst (n := 87) (v := 0) dX2_measures_86 rfl (by decide) ?_
    refine z_istore_nE (n := 88) (lv' := [(3, .int 0), (0, .ref o0), (1, .int x_9), (2, .int v2_57)]) dX2_measures_87 rfl rfl rfl (by decide) rfl ?_
    refine z_sub [1, 2, 3, 0] rfl ?_
    obtain ⟨t_92, e_91, hF⟩ := zb1_some hF
    obtain ⟨I_88, rfl⟩ : ∃ z, z = t_92 := ⟨_, rfl⟩
    have H_93 : zW l G MX2_measures 1 24 0 0 150 [(0, .ref o0), (1, .int x_9), (2, .int v2_57)] [] K F I_88 L Q := by
      obtain ⟨v2_89, e_90, hF⟩ := zlet_ob hF
      refine z_iincE (n := 153) (w := 1) (v := v2_89) (lv' := [(2, .int v2_89), (0, .ref o0), (1, .int x_9)]) dX2_measures_150 rfl 2 rfl (by decide) e_90 (by decide) rfl ?_
      refine z_goto (t := 81) dX2_measures_153 (by decide) ?_
      refine z_sub [1, 2, 0] rfl ?_
      have hF := Option.some.inj hF; subst hF
      exact kl v2_89 I_88 rfl
    refine zloop_ind (P := fun s : Int32 × zId => zW l G MX2_measures 1 24 0 0 88 [(0, .ref o0), (1, .int x_9), (2, .int v2_57), (3, .int s.1)] [] K F s.2 L Q) (fun s r hb kl kr => ?_) e_91
    exact W_X2_measures_L88 (o0 := o0) htr hb (fun z0 z1 e => kl _ e) (fun y0 e => by cases kr _ e; exact H_93)
set_option maxHeartbeats 1000000 in
theorem C_X2_measures {l : Launch} {G : zGt} (htr : l.stackTraces = false) {K : zKd} {F : zFd} {L : zLd} {o0 : Nat} {I : zId} {r : zId} (hF : F_X2_measures K F o0 I = some r) : zMet l G yX2_measures (ws_ yX2_measures cX2_measures 5 none) 1 24 0 0 [.ref o0] K F I L (zQe (.inl none) K F r L) := by
  refine zMet.of (by decide +kernel) htr (Nat.le_of_ble_eq_true rfl) ?_
  change zW l G MX2_measures 1 24 0 0 0 [(0, .ref o0)] [] K F I L (zQe (.inl none) K F r L)
  unfold F_X2_measures at hF
  refine z_aload_n (n := 1) dX2_measures_0 rfl 0 rfl rfl ?_
  obtain ⟨n_1, hk_2, hF⟩ := zka_some hF
  obtain ⟨hb_3, hF⟩ := zg_some hF
  obtain ⟨o_4, hr_5, hF⟩ := zb1_some hF
  refine z_getRS (n := 4) dX2_measures_1 rfl zok1 fX2_26_1 rfl hk_2 (Or.inl (zbig hb_3)) hr_5 ?_
  obtain ⟨n_6, hk_7, hF⟩ := zka_some hF
  obtain ⟨x_9, c_8, hF⟩ := zb1_some hF
  refine z_cV (n := 7) (st := []) (C_J2_size htr c_8) dX2_measures_4 rfl (lw_V q1346 q834 q835 q109 q836) hcee_J2_size rfl (by decide) hk_7 rfl rfl rfl (Nat.le_of_ble_eq_true rfl) (Nat.le_refl _) (Nat.le_refl _) ?_
  refine z_istore_nE (n := 8) (lv' := [(1, .int x_9), (0, .ref o0)]) dX2_measures_7 rfl rfl rfl (by decide) rfl ?_
  refine z_iconst (n := 9) (v := 0) dX2_measures_8 rfl (by decide) ?_
  refine z_istore_nE (n := 10) (lv' := [(2, .int 0), (1, .int x_9), (0, .ref o0)]) dX2_measures_9 rfl rfl rfl (by decide) rfl ?_
  refine z_sub [2, 1, 0] rfl ?_
  obtain ⟨t_99, e_98, hF⟩ := zb1_some hF
  obtain ⟨I_56, rfl⟩ : ∃ z, z = t_99 := ⟨_, rfl⟩
  have H_100 : zW l G MX2_measures 1 24 0 0 79 [(0, .ref o0), (1, .int x_9)] [] K F I_56 L (zQe (.inl none) K F r L) := by
    refine z_iconst (n := 80) (v := 0) dX2_measures_79 rfl (by decide) ?_
    refine z_istore_nE (n := 81) (lv' := [(2, .int 0), (0, .ref o0), (1, .int x_9)]) dX2_measures_80 rfl rfl rfl (by decide) rfl ?_
    refine z_sub [1, 2, 0] rfl ?_
    obtain ⟨t_96, e_95, hF⟩ := zb1_some hF
    obtain ⟨I_94, rfl⟩ : ∃ z, z = t_96 := ⟨_, rfl⟩
    have H_97 : zW l G MX2_measures 1 24 0 0 156 [] [] K F I_94 L (zQe (.inl none) K F r L) := by
      have hF := Option.some.inj hF; subst hF
      exact z_vret dX2_measures_156 rfl ⟨rfl, rfl, rfl, rfl, rfl⟩
    refine zloop_ind (P := fun s : Int32 × zId => zW l G MX2_measures 1 24 0 0 81 [(0, .ref o0), (1, .int x_9), (2, .int s.1)] [] K F s.2 L (zQe (.inl none) K F r L)) (fun s r hb kl kr => ?_) e_95
    exact W_X2_measures_L81 (o0 := o0) htr hb (fun z0 z1 e => kl _ e) (fun y0 e => by cases kr _ e; exact H_97)
  refine zloop_ind (P := fun s : Int32 × zId => zW l G MX2_measures 1 24 0 0 10 [(0, .ref o0), (1, .int x_9), (2, .int s.1)] [] K F s.2 L (zQe (.inl none) K F r L)) (fun s r hb kl kr => ?_) e_98
  exact W_X2_measures_L10 (o0 := o0) htr hb (fun z0 z1 e => kl _ e) (fun y0 e => by cases kr _ e; exact H_100)
abbrev MX3_sees : zM := (RX3, cX3_sees, 3, none, "sees", [])
noncomputable def F_X3_sees (K : zKd) (F : zFd) (o0 : Nat) (a0 : Nat) (a1 : Int32) (I : zId) : Option (zId) := zka K o0 3 (fun n_1 => zg (decide (600 ≤ o0)) (zb1 (F o0 0) (fun o_4 => zka K a0 21 (fun n_6 => zg (decide (a0 < 600)) (zka K o_4 64 (fun n_9 => zg (zin (nI n_6) n_9) (zg (decide (600 ≤ o_4)) (zlet (zu I o_4 ((nI n_6).toNatClampNeg) a1) (fun I_13 => some I_13)))))))))
set_option maxHeartbeats 1000000 in
theorem C_X3_sees {l : Launch} {G : zGt} (htr : l.stackTraces = false) {K : zKd} {F : zFd} {L : zLd} {o0 : Nat} {a0 : Nat} {a1 : Int32} {I : zId} {r : zId} (hF : F_X3_sees K F o0 a0 a1 I = some r) : zMet l G yX3_sees (ws_ yX3_sees cX3_sees 3 none) 1 20 0 0 [.ref o0, .ref a0, .int a1] K F I L (zQe (.inl none) K F r L) := by
  refine zMet.of (by decide +kernel) htr (Nat.le_of_ble_eq_true rfl) ?_
  change zW l G MX3_sees 1 20 0 0 0 [(0, .ref o0), (1, .ref a0), (2, .int a1)] [] K F I L (zQe (.inl none) K F r L)
  unfold F_X3_sees at hF
  refine z_aload_n (n := 1) dX3_sees_0 rfl 0 rfl rfl ?_
  obtain ⟨n_1, hk_2, hF⟩ := zka_some hF
  obtain ⟨hb_3, hF⟩ := zg_some hF
  obtain ⟨o_4, hr_5, hF⟩ := zb1_some hF
  refine z_getRS (n := 4) dX3_sees_1 rfl zok3 fX3_13_3 rfl hk_2 (Or.inl (zbig hb_3)) hr_5 ?_
  refine z_aload_n (n := 5) dX3_sees_4 rfl 1 rfl rfl ?_
  obtain ⟨n_6, hk_7, hF⟩ := zka_some hF
  obtain ⟨h_8, hF⟩ := zg_some hF
  refine z_ordinal (n := 8) htr dX3_sees_5 rfl q852 hk_7 (of_decide_eq_true h_8) (Nat.le_of_ble_eq_true rfl) (by first | decide | omega) (by first | decide | omega) ?_
  refine z_iload_n (n := 9) dX3_sees_8 rfl 2 rfl rfl ?_
  obtain ⟨n_9, hk_10, hF⟩ := zka_some hF
  obtain ⟨h_11, hF⟩ := zg_some hF
  obtain ⟨hb_12, hF⟩ := zg_some hF
  obtain ⟨I_13, e_14, hF⟩ := zlet_ob hF
  refine z_iastK (n := 10) ((nI n_6).toNatClampNeg) rfl dX3_sees_9 rfl hk_10 (zbig hb_12) (zin_ok h_11) e_14 ?_
  have hF := Option.some.inj hF; subst hF
  exact z_vret dX3_sees_10 rfl ⟨rfl, rfl, rfl, rfl, rfl⟩
theorem fX13_7_11 : zFld RX13 7 11 0 := ⟨_, rfl, by decide, _, Or.inl q1256, Or.inl rfl⟩
abbrev MX13_by : zM := (RX13, cX13_by, 2, (some .int), "by", [])
noncomputable def F_X13_by (K : zKd) (F : zFd) (o0 : Nat) (a0 : Nat) (I : zId) : Option (Int32) := zka K o0 11 (fun n_1 => zg (decide (600 ≤ o0)) (some (I o0 0)))
set_option maxHeartbeats 1000000 in
theorem C_X13_by {l : Launch} {G : zGt} (htr : l.stackTraces = false) {K : zKd} {F : zFd} {L : zLd} {o0 : Nat} {a0 : Nat} {I : zId} {r : Int32} (hF : F_X13_by K F o0 a0 I = some r) : zMet l G yX13_by (ws_ yX13_by cX13_by 2 (some .int)) 0 0 0 0 [.ref o0, .ref a0] K F I L (zQe (.inl (some (.int r))) K F I L) := by
  refine zMet.of (by decide +kernel) htr (Nat.le_of_ble_eq_true rfl) ?_
  change zW l G MX13_by 0 0 0 0 0 [(0, .ref o0), (1, .ref a0)] [] K F I L (zQe (.inl (some (.int r))) K F I L)
  unfold F_X13_by at hF
  refine z_aload_n (n := 1) dX13_by_0 rfl 0 rfl rfl ?_
  obtain ⟨n_1, hk_2, hF⟩ := zka_some hF
  obtain ⟨hb_3, hF⟩ := zg_some hF
  refine z_getI (n := 4) dX13_by_1 rfl zok11 fX13_7_11 rfl hk_2 (Or.inl (zbig hb_3)) ?_
  have hF := Option.some.inj hF; subst hF
  exact z_iret dX13_by_4 rfl rfl ⟨rfl, rfl, rfl, rfl, rfl⟩
theorem fX14_7_12 : zFld RX14 7 12 0 := ⟨_, rfl, by decide, _, Or.inl q1288, Or.inl rfl⟩
theorem fX14_13_3 : zFld RX14 13 3 0 := ⟨_, rfl, by decide, _, Or.inr ⟨_, q517⟩, Or.inl rfl⟩
abbrev MX14_by : zM := (RX14, cX14_by, 2, (some .int), "by", [])
noncomputable def F_X14_by (K : zKd) (F : zFd) (o0 : Nat) (a0 : Nat) (I : zId) : Option (Int32) := zka K a0 3 (fun n_1 => zg (decide (600 ≤ a0)) (zb1 (F a0 0) (fun o_4 => zka K o0 12 (fun n_6 => zg (decide (600 ≤ o0)) (zb1 (F o0 0) (fun o_9 => zka K o_9 21 (fun n_11 => zg (decide (o_9 < 600)) (zka K o_4 64 (fun n_14 => zg (zin (nI n_11) n_14) (some (I o_4 ((nI n_11).toNatClampNeg))))))))))))
set_option maxHeartbeats 1000000 in
theorem C_X14_by {l : Launch} {G : zGt} (htr : l.stackTraces = false) {K : zKd} {F : zFd} {L : zLd} {o0 : Nat} {a0 : Nat} {I : zId} {r : Int32} (hF : F_X14_by K F o0 a0 I = some r) : zMet l G yX14_by (ws_ yX14_by cX14_by 2 (some .int)) 1 20 0 0 [.ref o0, .ref a0] K F I L (zQe (.inl (some (.int r))) K F I L) := by
  refine zMet.of (by decide +kernel) htr (Nat.le_of_ble_eq_true rfl) ?_
  change zW l G MX14_by 1 20 0 0 0 [(0, .ref o0), (1, .ref a0)] [] K F I L (zQe (.inl (some (.int r))) K F I L)
  unfold F_X14_by at hF
  refine z_aload_n (n := 1) dX14_by_0 rfl 1 rfl rfl ?_
  obtain ⟨n_1, hk_2, hF⟩ := zka_some hF
  obtain ⟨hb_3, hF⟩ := zg_some hF
  obtain ⟨o_4, hr_5, hF⟩ := zb1_some hF
  refine z_getRS (n := 4) dX14_by_1 rfl zok3 fX14_13_3 rfl hk_2 (Or.inl (zbig hb_3)) hr_5 ?_
  refine z_aload_n (n := 5) dX14_by_4 rfl 0 rfl rfl ?_
  obtain ⟨n_6, hk_7, hF⟩ := zka_some hF
  obtain ⟨hb_8, hF⟩ := zg_some hF
  obtain ⟨o_9, hr_10, hF⟩ := zb1_some hF
  refine z_getRS (n := 8) dX14_by_5 rfl zok12 fX14_7_12 rfl hk_7 (Or.inl (zbig hb_8)) hr_10 ?_
  obtain ⟨n_11, hk_12, hF⟩ := zka_some hF
  obtain ⟨h_13, hF⟩ := zg_some hF
  refine z_ordinal (n := 11) htr dX14_by_8 rfl q886 hk_12 (of_decide_eq_true h_13) (Nat.le_of_ble_eq_true rfl) (by first | decide | omega) (by first | decide | omega) ?_
  obtain ⟨n_14, hk_15, hF⟩ := zka_some hF
  obtain ⟨h_16, hF⟩ := zg_some hF
  refine z_ialdK (n := 12) ((nI n_11).toNatClampNeg) rfl dX14_by_11 rfl hk_15 (zin_ok h_16) ?_
  have hF := Option.some.inj hF; subst hF
  exact z_iret dX14_by_12 rfl rfl ⟨rfl, rfl, rfl, rfl, rfl⟩
theorem fX15_7_13 : zFld RX15 7 13 0 := ⟨_, rfl, by decide, _, Or.inl q1315, Or.inl rfl⟩
theorem fX15_13_13 : zFld RX15 13 13 1 := ⟨_, rfl, by decide, _, Or.inl q1316, Or.inl rfl⟩
theorem fX15_17_13 : zFld RX15 17 13 2 := ⟨_, rfl, by decide, _, Or.inl q1317, Or.inl rfl⟩
abbrev MX15_by : zM := (RX15, cX15_by, 4, (some .int), "by", [])
noncomputable def F_X15_by (K : zKd) (F : zFd) (by_ : Nat → Nat → zId → Option Int32) (fb : Nat) (lb : Nat) (o0 : Nat) (a0 : Nat) (I : zId) : Option (Int32) := zka K o0 13 (fun n_1 => zg (decide (600 ≤ o0)) (zb1 (F o0 1) (fun o_4 => zb1 (by_ o_4 a0 I) (fun x_6 => zb1 (F o0 2) (fun o_8 => zb1 (by_ o_8 a0 I) (fun x_10 => if (I o0 0) = 38 then if x_6 = 0 then some 0 else if x_10 = 0 then some 0 else some 1 else if (I o0 0) = 42 then some (x_6 * x_10) else if (I o0 0) = 43 then some (x_6 + x_10) else if (I o0 0) = 45 then some (x_6 - x_10) else if (I o0 0) = 47 then if ¬ x_10 = 0 then zg (!(decide (x_10 = 0))) (some (x_6 / x_10)) else some 0 else if (I o0 0) = 60 then if x_10 ≤ x_6 then some 0 else some 1 else if (I o0 0) = 61 then if ¬ x_6 = x_10 then some 0 else some 1 else if ¬ x_6 = 0 then some 1 else if x_10 = 0 then some 0 else some 1))))))
set_option maxHeartbeats 1000000 in
theorem C_X15_by {l : Launch} {G : zGt} (htr : l.stackTraces = false) {K : zKd} {F : zFd} {L : zLd} {by_ : Nat → Nat → zId → Option Int32} {fb : Nat} {lb : Nat} {o0 : Nat} {a0 : Nat} (hby : ∀ o v I r, by_ o v I = some r → zBy l G K F L fb lb o v I r) {I : zId} {r : Int32} (hF : F_X15_by K F by_ fb lb o0 a0 I = some r) : zMet l G yX15_by (ws_ yX15_by cX15_by 4 (some .int)) (fb + 1) (lb + 23) 0 0 [.ref o0, .ref a0] K F I L (zQe (.inl (some (.int r))) K F I L) := by
  refine zMet.of (by decide +kernel) htr (Nat.le_of_ble_eq_true rfl) ?_
  change zW l G MX15_by (fb + 1) (lb + 23) 0 0 0 [(0, .ref o0), (1, .ref a0)] [] K F I L (zQe (.inl (some (.int r))) K F I L)
  unfold F_X15_by at hF
  refine z_aload_n (n := 1) dX15_by_0 rfl 0 rfl rfl ?_
  obtain ⟨n_1, hk_2, hF⟩ := zka_some hF
  obtain ⟨hb_3, hF⟩ := zg_some hF
  obtain ⟨o_4, hr_5, hF⟩ := zb1_some hF
  refine z_getRS (n := 4) dX15_by_1 rfl zok13 fX15_13_13 rfl hk_2 (Or.inl (zbig hb_3)) hr_5 ?_
  refine z_aload_n (n := 5) dX15_by_4 rfl 1 rfl rfl ?_
  obtain ⟨x_6, c_7, hF⟩ := zb1_some hF
  refine z_by (n := 8) (st := []) (hby _ _ _ _ c_7) dX15_by_5 rfl q880 (Nat.le_refl _) (by omega) (Nat.le_of_ble_eq_true rfl) ?_
  refine z_istore_nE (n := 9) (lv' := [(2, .int x_6), (0, .ref o0), (1, .ref a0)]) dX15_by_8 rfl rfl rfl (by decide) rfl ?_
  refine z_aload_n (n := 10) dX15_by_9 rfl 1 rfl rfl ?_
  obtain ⟨o_8, hr_9, hF⟩ := zb1_some hF
  refine z_getRS (n := 13) dX15_by_10 rfl zok13 fX15_17_13 rfl hk_2 (Or.inl (zbig hb_3)) hr_9 ?_
  refine z_aload_n (n := 14) dX15_by_13 rfl 2 rfl rfl ?_
  obtain ⟨x_10, c_11, hF⟩ := zb1_some hF
  refine z_by (n := 17) (st := []) (hby _ _ _ _ c_11) dX15_by_14 rfl q880 (Nat.le_refl _) (by omega) (Nat.le_of_ble_eq_true rfl) ?_
  refine z_istore_nE (n := 18) (lv' := [(3, .int x_10), (2, .int x_6), (0, .ref o0), (1, .ref a0)]) dX15_by_17 rfl rfl rfl (by decide) rfl ?_
  refine z_aload_n (n := 19) dX15_by_18 rfl 2 rfl rfl ?_
  refine z_getI (n := 22) dX15_by_19 rfl zok13 fX15_7_13 rfl hk_2 (Or.inl (zbig hb_3)) ?_
  by_cases ht38 : (I o0 0) = 38
  · replace hF := (if_pos ht38).symm.trans hF
    refine z_tableIn (off := 156) (t := 178) dX15_by_22 (by rw [ht38]; decide) (by rw [ht38]; decide) (by rw [ht38]; rfl) (by decide) ?_
    refine z_iload_n (n := 179) dX15_by_178 rfl 1 rfl rfl ?_
    refine z_if_eq (n := 182) (t := 190) dX15_by_179 rfl (by decide) (fun hc => ?_) (fun hc => ?_)
    · replace hF := (if_pos hc).symm.trans hF
      refine z_iconst (n := 191) (v := 0) dX15_by_190 rfl (by decide) ?_
      have hF := Option.some.inj hF; subst hF
      exact z_iret dX15_by_191 rfl rfl ⟨rfl, rfl, rfl, rfl, rfl⟩
    · replace hF := (if_neg hc).symm.trans hF
      refine z_iload_n (n := 183) dX15_by_182 rfl 0 rfl rfl ?_
      refine z_if_eq (n := 186) (t := 190) dX15_by_183 rfl (by decide) (fun hc => ?_) (fun hc => ?_)
      · replace hF := (if_pos hc).symm.trans hF
        refine z_iconst (n := 191) (v := 0) dX15_by_190 rfl (by decide) ?_
        have hF := Option.some.inj hF; subst hF
        exact z_iret dX15_by_191 rfl rfl ⟨rfl, rfl, rfl, rfl, rfl⟩
      · replace hF := (if_neg hc).symm.trans hF
        refine z_iconst (n := 187) (v := 1) dX15_by_186 rfl (by decide) ?_
        refine z_goto (t := 191) dX15_by_187 (by decide) ?_
        have hF := Option.some.inj hF; subst hF
        exact z_iret dX15_by_191 rfl rfl ⟨rfl, rfl, rfl, rfl, rfl⟩
  replace hF := (if_neg ht38).symm.trans hF
  by_cases ht42 : (I o0 0) = 42
  · replace hF := (if_pos ht42).symm.trans hF
    refine z_tableIn (off := 118) (t := 140) dX15_by_22 (by rw [ht42]; decide) (by rw [ht42]; decide) (by rw [ht42]; rfl) (by decide) ?_
    refine z_iload_n (n := 141) dX15_by_140 rfl 1 rfl rfl ?_
    refine z_iload_n (n := 142) dX15_by_141 rfl 0 rfl rfl ?_
    refine z_imul (n := 143) dX15_by_142 rfl ?_
    have hF := Option.some.inj hF; subst hF
    exact z_iret dX15_by_143 rfl rfl ⟨rfl, rfl, rfl, rfl, rfl⟩
  replace hF := (if_neg ht42).symm.trans hF
  by_cases ht43 : (I o0 0) = 43
  · replace hF := (if_pos ht43).symm.trans hF
    refine z_tableIn (off := 110) (t := 132) dX15_by_22 (by rw [ht43]; decide) (by rw [ht43]; decide) (by rw [ht43]; rfl) (by decide) ?_
    refine z_iload_n (n := 133) dX15_by_132 rfl 1 rfl rfl ?_
    refine z_iload_n (n := 134) dX15_by_133 rfl 0 rfl rfl ?_
    refine z_iadd (n := 135) dX15_by_134 rfl ?_
    have hF := Option.some.inj hF; subst hF
    exact z_iret dX15_by_135 rfl rfl ⟨rfl, rfl, rfl, rfl, rfl⟩
  replace hF := (if_neg ht43).symm.trans hF
  by_cases ht45 : (I o0 0) = 45
  · replace hF := (if_pos ht45).symm.trans hF
    refine z_tableIn (off := 114) (t := 136) dX15_by_22 (by rw [ht45]; decide) (by rw [ht45]; decide) (by rw [ht45]; rfl) (by decide) ?_
    refine z_iload_n (n := 137) dX15_by_136 rfl 1 rfl rfl ?_
    refine z_iload_n (n := 138) dX15_by_137 rfl 0 rfl rfl ?_
    refine z_isub (n := 139) dX15_by_138 rfl ?_
    have hF := Option.some.inj hF; subst hF
    exact z_iret dX15_by_139 rfl rfl ⟨rfl, rfl, rfl, rfl, rfl⟩
  replace hF := (if_neg ht45).symm.trans hF
  by_cases ht47 : (I o0 0) = 47
  · replace hF := (if_pos ht47).symm.trans hF
    refine z_tableIn (off := 122) (t := 144) dX15_by_22 (by rw [ht47]; decide) (by rw [ht47]; decide) (by rw [ht47]; rfl) (by decide) ?_
    refine z_iload_n (n := 145) dX15_by_144 rfl 0 rfl rfl ?_
    refine z_if_ne (n := 148) (t := 152) dX15_by_145 rfl (by decide) (fun hc => ?_) (fun hc => ?_)
    · replace hF := (if_pos hc).symm.trans hF
      refine z_iload_n (n := 153) dX15_by_152 rfl 1 rfl rfl ?_
      refine z_iload_n (n := 154) dX15_by_153 rfl 0 rfl rfl ?_
      obtain ⟨h_12, hF⟩ := zg_some hF
      refine z_idiv (n := 155) dX15_by_154 rfl (zneg0 (a := 0) h_12) ?_
      have hF := Option.some.inj hF; subst hF
      exact z_iret dX15_by_155 rfl rfl ⟨rfl, rfl, rfl, rfl, rfl⟩
    · replace hF := (if_neg hc).symm.trans hF
      refine z_iconst (n := 149) (v := 0) dX15_by_148 rfl (by decide) ?_
      refine z_goto (t := 155) dX15_by_149 (by decide) ?_
      have hF := Option.some.inj hF; subst hF
      exact z_iret dX15_by_155 rfl rfl ⟨rfl, rfl, rfl, rfl, rfl⟩
  replace hF := (if_neg ht47).symm.trans hF
  by_cases ht60 : (I o0 0) = 60
  · replace hF := (if_pos ht60).symm.trans hF
    refine z_tableIn (off := 134) (t := 156) dX15_by_22 (by rw [ht60]; decide) (by rw [ht60]; decide) (by rw [ht60]; rfl) (by decide) ?_
    refine z_iload_n (n := 157) dX15_by_156 rfl 1 rfl rfl ?_
    refine z_iload_n (n := 158) dX15_by_157 rfl 0 rfl rfl ?_
    refine z_icmp_ge (n := 161) (t := 165) dX15_by_158 rfl (by decide) (fun hc => ?_) (fun hc => ?_)
    · replace hF := (if_pos hc).symm.trans hF
      refine z_iconst (n := 166) (v := 0) dX15_by_165 rfl (by decide) ?_
      have hF := Option.some.inj hF; subst hF
      exact z_iret dX15_by_166 rfl rfl ⟨rfl, rfl, rfl, rfl, rfl⟩
    · replace hF := (if_neg hc).symm.trans hF
      refine z_iconst (n := 162) (v := 1) dX15_by_161 rfl (by decide) ?_
      refine z_goto (t := 166) dX15_by_162 (by decide) ?_
      have hF := Option.some.inj hF; subst hF
      exact z_iret dX15_by_166 rfl rfl ⟨rfl, rfl, rfl, rfl, rfl⟩
  replace hF := (if_neg ht60).symm.trans hF
  by_cases ht61 : (I o0 0) = 61
  · replace hF := (if_pos ht61).symm.trans hF
    refine z_tableIn (off := 145) (t := 167) dX15_by_22 (by rw [ht61]; decide) (by rw [ht61]; decide) (by rw [ht61]; rfl) (by decide) ?_
    refine z_iload_n (n := 168) dX15_by_167 rfl 1 rfl rfl ?_
    refine z_iload_n (n := 169) dX15_by_168 rfl 0 rfl rfl ?_
    refine z_icmp_ne (n := 172) (t := 176) dX15_by_169 rfl (by decide) (fun hc => ?_) (fun hc => ?_)
    · replace hF := (if_pos hc).symm.trans hF
      refine z_iconst (n := 177) (v := 0) dX15_by_176 rfl (by decide) ?_
      have hF := Option.some.inj hF; subst hF
      exact z_iret dX15_by_177 rfl rfl ⟨rfl, rfl, rfl, rfl, rfl⟩
    · replace hF := (if_neg hc).symm.trans hF
      refine z_iconst (n := 173) (v := 1) dX15_by_172 rfl (by decide) ?_
      refine z_goto (t := 177) dX15_by_173 (by decide) ?_
      have hF := Option.some.inj hF; subst hF
      exact z_iret dX15_by_177 rfl rfl ⟨rfl, rfl, rfl, rfl, rfl⟩
  replace hF := (if_neg ht61).symm.trans hF
  by_cases ht39 : (I o0 0) = 39
  · refine z_tableIn (off := 170) (t := 192) dX15_by_22 (by rw [ht39]; decide) (by rw [ht39]; decide) (by rw [ht39]; rfl) (by decide) ?_
    refine z_iload_n (n := 193) dX15_by_192 rfl 1 rfl rfl ?_
    refine z_if_ne (n := 196) (t := 200) dX15_by_193 rfl (by decide) (fun hc => ?_) (fun hc => ?_)
    · replace hF := (if_pos hc).symm.trans hF
      refine z_iconst (n := 201) (v := 1) dX15_by_200 rfl (by decide) ?_
      refine z_goto (t := 205) dX15_by_201 (by decide) ?_
      have hF := Option.some.inj hF; subst hF
      exact z_iret dX15_by_205 rfl rfl ⟨rfl, rfl, rfl, rfl, rfl⟩
    · replace hF := (if_neg hc).symm.trans hF
      refine z_iload_n (n := 197) dX15_by_196 rfl 0 rfl rfl ?_
      refine z_if_eq (n := 200) (t := 204) dX15_by_197 rfl (by decide) (fun hc => ?_) (fun hc => ?_)
      · replace hF := (if_pos hc).symm.trans hF
        refine z_iconst (n := 205) (v := 0) dX15_by_204 rfl (by decide) ?_
        have hF := Option.some.inj hF; subst hF
        exact z_iret dX15_by_205 rfl rfl ⟨rfl, rfl, rfl, rfl, rfl⟩
      · replace hF := (if_neg hc).symm.trans hF
        refine z_iconst (n := 201) (v := 1) dX15_by_200 rfl (by decide) ?_
        refine z_goto (t := 205) dX15_by_201 (by decide) ?_
        have hF := Option.some.inj hF; subst hF
        exact z_iret dX15_by_205 rfl rfl ⟨rfl, rfl, rfl, rfl, rfl⟩
  by_cases ht40 : (I o0 0) = 40
  · refine z_tableIn (off := 170) (t := 192) dX15_by_22 (by rw [ht40]; decide) (by rw [ht40]; decide) (by rw [ht40]; rfl) (by decide) ?_
    refine z_iload_n (n := 193) dX15_by_192 rfl 1 rfl rfl ?_
    refine z_if_ne (n := 196) (t := 200) dX15_by_193 rfl (by decide) (fun hc => ?_) (fun hc => ?_)
    · replace hF := (if_pos hc).symm.trans hF
      refine z_iconst (n := 201) (v := 1) dX15_by_200 rfl (by decide) ?_
      refine z_goto (t := 205) dX15_by_201 (by decide) ?_
      have hF := Option.some.inj hF; subst hF
      exact z_iret dX15_by_205 rfl rfl ⟨rfl, rfl, rfl, rfl, rfl⟩
    · replace hF := (if_neg hc).symm.trans hF
      refine z_iload_n (n := 197) dX15_by_196 rfl 0 rfl rfl ?_
      refine z_if_eq (n := 200) (t := 204) dX15_by_197 rfl (by decide) (fun hc => ?_) (fun hc => ?_)
      · replace hF := (if_pos hc).symm.trans hF
        refine z_iconst (n := 205) (v := 0) dX15_by_204 rfl (by decide) ?_
        have hF := Option.some.inj hF; subst hF
        exact z_iret dX15_by_205 rfl rfl ⟨rfl, rfl, rfl, rfl, rfl⟩
      · replace hF := (if_neg hc).symm.trans hF
        refine z_iconst (n := 201) (v := 1) dX15_by_200 rfl (by decide) ?_
        refine z_goto (t := 205) dX15_by_201 (by decide) ?_
        have hF := Option.some.inj hF; subst hF
        exact z_iret dX15_by_205 rfl rfl ⟨rfl, rfl, rfl, rfl, rfl⟩
  by_cases ht41 : (I o0 0) = 41
  · refine z_tableIn (off := 170) (t := 192) dX15_by_22 (by rw [ht41]; decide) (by rw [ht41]; decide) (by rw [ht41]; rfl) (by decide) ?_
    refine z_iload_n (n := 193) dX15_by_192 rfl 1 rfl rfl ?_
    refine z_if_ne (n := 196) (t := 200) dX15_by_193 rfl (by decide) (fun hc => ?_) (fun hc => ?_)
    · replace hF := (if_pos hc).symm.trans hF
      refine z_iconst (n := 201) (v := 1) dX15_by_200 rfl (by decide) ?_
      refine z_goto (t := 205) dX15_by_201 (by decide) ?_
      have hF := Option.some.inj hF; subst hF
      exact z_iret dX15_by_205 rfl rfl ⟨rfl, rfl, rfl, rfl, rfl⟩
    · replace hF := (if_neg hc).symm.trans hF
      refine z_iload_n (n := 197) dX15_by_196 rfl 0 rfl rfl ?_
      refine z_if_eq (n := 200) (t := 204) dX15_by_197 rfl (by decide) (fun hc => ?_) (fun hc => ?_)
      · replace hF := (if_pos hc).symm.trans hF
        refine z_iconst (n := 205) (v := 0) dX15_by_204 rfl (by decide) ?_
        have hF := Option.some.inj hF; subst hF
        exact z_iret dX15_by_205 rfl rfl ⟨rfl, rfl, rfl, rfl, rfl⟩
      · replace hF := (if_neg hc).symm.trans hF
        refine z_iconst (n := 201) (v := 1) dX15_by_200 rfl (by decide) ?_
        refine z_goto (t := 205) dX15_by_201 (by decide) ?_
        have hF := Option.some.inj hF; subst hF
        exact z_iret dX15_by_205 rfl rfl ⟨rfl, rfl, rfl, rfl, rfl⟩
  by_cases ht44 : (I o0 0) = 44
  · refine z_tableIn (off := 170) (t := 192) dX15_by_22 (by rw [ht44]; decide) (by rw [ht44]; decide) (by rw [ht44]; rfl) (by decide) ?_
    refine z_iload_n (n := 193) dX15_by_192 rfl 1 rfl rfl ?_
    refine z_if_ne (n := 196) (t := 200) dX15_by_193 rfl (by decide) (fun hc => ?_) (fun hc => ?_)
    · replace hF := (if_pos hc).symm.trans hF
      refine z_iconst (n := 201) (v := 1) dX15_by_200 rfl (by decide) ?_
      refine z_goto (t := 205) dX15_by_201 (by decide) ?_
      have hF := Option.some.inj hF; subst hF
      exact z_iret dX15_by_205 rfl rfl ⟨rfl, rfl, rfl, rfl, rfl⟩
    · replace hF := (if_neg hc).symm.trans hF
      refine z_iload_n (n := 197) dX15_by_196 rfl 0 rfl rfl ?_
      refine z_if_eq (n := 200) (t := 204) dX15_by_197 rfl (by decide) (fun hc => ?_) (fun hc => ?_)
      · replace hF := (if_pos hc).symm.trans hF
        refine z_iconst (n := 205) (v := 0) dX15_by_204 rfl (by decide) ?_
        have hF := Option.some.inj hF; subst hF
        exact z_iret dX15_by_205 rfl rfl ⟨rfl, rfl, rfl, rfl, rfl⟩
      · replace hF := (if_neg hc).symm.trans hF
        refine z_iconst (n := 201) (v := 1) dX15_by_200 rfl (by decide) ?_
        refine z_goto (t := 205) dX15_by_201 (by decide) ?_
        have hF := Option.some.inj hF; subst hF
        exact z_iret dX15_by_205 rfl rfl ⟨rfl, rfl, rfl, rfl, rfl⟩
  by_cases ht46 : (I o0 0) = 46
  · refine z_tableIn (off := 170) (t := 192) dX15_by_22 (by rw [ht46]; decide) (by rw [ht46]; decide) (by rw [ht46]; rfl) (by decide) ?_
    refine z_iload_n (n := 193) dX15_by_192 rfl 1 rfl rfl ?_
    refine z_if_ne (n := 196) (t := 200) dX15_by_193 rfl (by decide) (fun hc => ?_) (fun hc => ?_)
    · replace hF := (if_pos hc).symm.trans hF
      refine z_iconst (n := 201) (v := 1) dX15_by_200 rfl (by decide) ?_
      refine z_goto (t := 205) dX15_by_201 (by decide) ?_
      have hF := Option.some.inj hF; subst hF
      exact z_iret dX15_by_205 rfl rfl ⟨rfl, rfl, rfl, rfl, rfl⟩
    · replace hF := (if_neg hc).symm.trans hF
      refine z_iload_n (n := 197) dX15_by_196 rfl 0 rfl rfl ?_
      refine z_if_eq (n := 200) (t := 204) dX15_by_197 rfl (by decide) (fun hc => ?_) (fun hc => ?_)
      · replace hF := (if_pos hc).symm.trans hF
        refine z_iconst (n := 205) (v := 0) dX15_by_204 rfl (by decide) ?_
        have hF := Option.some.inj hF; subst hF
        exact z_iret dX15_by_205 rfl rfl ⟨rfl, rfl, rfl, rfl, rfl⟩
      · replace hF := (if_neg hc).symm.trans hF
        refine z_iconst (n := 201) (v := 1) dX15_by_200 rfl (by decide) ?_
        refine z_goto (t := 205) dX15_by_201 (by decide) ?_
        have hF := Option.some.inj hF; subst hF
        exact z_iret dX15_by_205 rfl rfl ⟨rfl, rfl, rfl, rfl, rfl⟩
  by_cases ht48 : (I o0 0) = 48
  · refine z_tableIn (off := 170) (t := 192) dX15_by_22 (by rw [ht48]; decide) (by rw [ht48]; decide) (by rw [ht48]; rfl) (by decide) ?_
    refine z_iload_n (n := 193) dX15_by_192 rfl 1 rfl rfl ?_
    refine z_if_ne (n := 196) (t := 200) dX15_by_193 rfl (by decide) (fun hc => ?_) (fun hc => ?_)
    · replace hF := (if_pos hc).symm.trans hF
      refine z_iconst (n := 201) (v := 1) dX15_by_200 rfl (by decide) ?_
      refine z_goto (t := 205) dX15_by_201 (by decide) ?_
      have hF := Option.some.inj hF; subst hF
      exact z_iret dX15_by_205 rfl rfl ⟨rfl, rfl, rfl, rfl, rfl⟩
    · replace hF := (if_neg hc).symm.trans hF
      refine z_iload_n (n := 197) dX15_by_196 rfl 0 rfl rfl ?_
      refine z_if_eq (n := 200) (t := 204) dX15_by_197 rfl (by decide) (fun hc => ?_) (fun hc => ?_)
      · replace hF := (if_pos hc).symm.trans hF
        refine z_iconst (n := 205) (v := 0) dX15_by_204 rfl (by decide) ?_
        have hF := Option.some.inj hF; subst hF
        exact z_iret dX15_by_205 rfl rfl ⟨rfl, rfl, rfl, rfl, rfl⟩
      · replace hF := (if_neg hc).symm.trans hF
        refine z_iconst (n := 201) (v := 1) dX15_by_200 rfl (by decide) ?_
        refine z_goto (t := 205) dX15_by_201 (by decide) ?_
        have hF := Option.some.inj hF; subst hF
        exact z_iret dX15_by_205 rfl rfl ⟨rfl, rfl, rfl, rfl, rfl⟩
  by_cases ht49 : (I o0 0) = 49
  · refine z_tableIn (off := 170) (t := 192) dX15_by_22 (by rw [ht49]; decide) (by rw [ht49]; decide) (by rw [ht49]; rfl) (by decide) ?_
    refine z_iload_n (n := 193) dX15_by_192 rfl 1 rfl rfl ?_
    refine z_if_ne (n := 196) (t := 200) dX15_by_193 rfl (by decide) (fun hc => ?_) (fun hc => ?_)
    · replace hF := (if_pos hc).symm.trans hF
      refine z_iconst (n := 201) (v := 1) dX15_by_200 rfl (by decide) ?_
      refine z_goto (t := 205) dX15_by_201 (by decide) ?_
      have hF := Option.some.inj hF; subst hF
      exact z_iret dX15_by_205 rfl rfl ⟨rfl, rfl, rfl, rfl, rfl⟩
    · replace hF := (if_neg hc).symm.trans hF
      refine z_iload_n (n := 197) dX15_by_196 rfl 0 rfl rfl ?_
      refine z_if_eq (n := 200) (t := 204) dX15_by_197 rfl (by decide) (fun hc => ?_) (fun hc => ?_)
      · replace hF := (if_pos hc).symm.trans hF
        refine z_iconst (n := 205) (v := 0) dX15_by_204 rfl (by decide) ?_
        have hF := Option.some.inj hF; subst hF
        exact z_iret dX15_by_205 rfl rfl ⟨rfl, rfl, rfl, rfl, rfl⟩
      · replace hF := (if_neg hc).symm.trans hF
        refine z_iconst (n := 201) (v := 1) dX15_by_200 rfl (by decide) ?_
        refine z_goto (t := 205) dX15_by_201 (by decide) ?_
        have hF := Option.some.inj hF; subst hF
        exact z_iret dX15_by_205 rfl rfl ⟨rfl, rfl, rfl, rfl, rfl⟩
  by_cases ht50 : (I o0 0) = 50
  · refine z_tableIn (off := 170) (t := 192) dX15_by_22 (by rw [ht50]; decide) (by rw [ht50]; decide) (by rw [ht50]; rfl) (by decide) ?_
    refine z_iload_n (n := 193) dX15_by_192 rfl 1 rfl rfl ?_
    refine z_if_ne (n := 196) (t := 200) dX15_by_193 rfl (by decide) (fun hc => ?_) (fun hc => ?_)
    · replace hF := (if_pos hc).symm.trans hF
      refine z_iconst (n := 201) (v := 1) dX15_by_200 rfl (by decide) ?_
      refine z_goto (t := 205) dX15_by_201 (by decide) ?_
      have hF := Option.some.inj hF; subst hF
      exact z_iret dX15_by_205 rfl rfl ⟨rfl, rfl, rfl, rfl, rfl⟩
    · replace hF := (if_neg hc).symm.trans hF
      refine z_iload_n (n := 197) dX15_by_196 rfl 0 rfl rfl ?_
      refine z_if_eq (n := 200) (t := 204) dX15_by_197 rfl (by decide) (fun hc => ?_) (fun hc => ?_)
      · replace hF := (if_pos hc).symm.trans hF
        refine z_iconst (n := 205) (v := 0) dX15_by_204 rfl (by decide) ?_
        have hF := Option.some.inj hF; subst hF
        exact z_iret dX15_by_205 rfl rfl ⟨rfl, rfl, rfl, rfl, rfl⟩
      · replace hF := (if_neg hc).symm.trans hF
        refine z_iconst (n := 201) (v := 1) dX15_by_200 rfl (by decide) ?_
        refine z_goto (t := 205) dX15_by_201 (by decide) ?_
        have hF := Option.some.inj hF; subst hF
        exact z_iret dX15_by_205 rfl rfl ⟨rfl, rfl, rfl, rfl, rfl⟩
  by_cases ht51 : (I o0 0) = 51
  · refine z_tableIn (off := 170) (t := 192) dX15_by_22 (by rw [ht51]; decide) (by rw [ht51]; decide) (by rw [ht51]; rfl) (by decide) ?_
    refine z_iload_n (n := 193) dX15_by_192 rfl 1 rfl rfl ?_
    refine z_if_ne (n := 196) (t := 200) dX15_by_193 rfl (by decide) (fun hc => ?_) (fun hc => ?_)
    · replace hF := (if_pos hc).symm.trans hF
      refine z_iconst (n := 201) (v := 1) dX15_by_200 rfl (by decide) ?_
      refine z_goto (t := 205) dX15_by_201 (by decide) ?_
      have hF := Option.some.inj hF; subst hF
      exact z_iret dX15_by_205 rfl rfl ⟨rfl, rfl, rfl, rfl, rfl⟩
    · replace hF := (if_neg hc).symm.trans hF
      refine z_iload_n (n := 197) dX15_by_196 rfl 0 rfl rfl ?_
      refine z_if_eq (n := 200) (t := 204) dX15_by_197 rfl (by decide) (fun hc => ?_) (fun hc => ?_)
      · replace hF := (if_pos hc).symm.trans hF
        refine z_iconst (n := 205) (v := 0) dX15_by_204 rfl (by decide) ?_
        have hF := Option.some.inj hF; subst hF
        exact z_iret dX15_by_205 rfl rfl ⟨rfl, rfl, rfl, rfl, rfl⟩
      · replace hF := (if_neg hc).symm.trans hF
        refine z_iconst (n := 201) (v := 1) dX15_by_200 rfl (by decide) ?_
        refine z_goto (t := 205) dX15_by_201 (by decide) ?_
        have hF := Option.some.inj hF; subst hF
        exact z_iret dX15_by_205 rfl rfl ⟨rfl, rfl, rfl, rfl, rfl⟩
  by_cases ht52 : (I o0 0) = 52
  · refine z_tableIn (off := 170) (t := 192) dX15_by_22 (by rw [ht52]; decide) (by rw [ht52]; decide) (by rw [ht52]; rfl) (by decide) ?_
    refine z_iload_n (n := 193) dX15_by_192 rfl 1 rfl rfl ?_
    refine z_if_ne (n := 196) (t := 200) dX15_by_193 rfl (by decide) (fun hc => ?_) (fun hc => ?_)
    · replace hF := (if_pos hc).symm.trans hF
      refine z_iconst (n := 201) (v := 1) dX15_by_200 rfl (by decide) ?_
      refine z_goto (t := 205) dX15_by_201 (by decide) ?_
      have hF := Option.some.inj hF; subst hF
      exact z_iret dX15_by_205 rfl rfl ⟨rfl, rfl, rfl, rfl, rfl⟩
    · replace hF := (if_neg hc).symm.trans hF
      refine z_iload_n (n := 197) dX15_by_196 rfl 0 rfl rfl ?_
      refine z_if_eq (n := 200) (t := 204) dX15_by_197 rfl (by decide) (fun hc => ?_) (fun hc => ?_)
      · replace hF := (if_pos hc).symm.trans hF
        refine z_iconst (n := 205) (v := 0) dX15_by_204 rfl (by decide) ?_
        have hF := Option.some.inj hF; subst hF
        exact z_iret dX15_by_205 rfl rfl ⟨rfl, rfl, rfl, rfl, rfl⟩
      · replace hF := (if_neg hc).symm.trans hF
        refine z_iconst (n := 201) (v := 1) dX15_by_200 rfl (by decide) ?_
        refine z_goto (t := 205) dX15_by_201 (by decide) ?_
        have hF := Option.some.inj hF; subst hF
        exact z_iret dX15_by_205 rfl rfl ⟨rfl, rfl, rfl, rfl, rfl⟩
  by_cases ht53 : (I o0 0) = 53
  · refine z_tableIn (off := 170) (t := 192) dX15_by_22 (by rw [ht53]; decide) (by rw [ht53]; decide) (by rw [ht53]; rfl) (by decide) ?_
    refine z_iload_n (n := 193) dX15_by_192 rfl 1 rfl rfl ?_
    refine z_if_ne (n := 196) (t := 200) dX15_by_193 rfl (by decide) (fun hc => ?_) (fun hc => ?_)
    · replace hF := (if_pos hc).symm.trans hF
      refine z_iconst (n := 201) (v := 1) dX15_by_200 rfl (by decide) ?_
      refine z_goto (t := 205) dX15_by_201 (by decide) ?_
      have hF := Option.some.inj hF; subst hF
      exact z_iret dX15_by_205 rfl rfl ⟨rfl, rfl, rfl, rfl, rfl⟩
    · replace hF := (if_neg hc).symm.trans hF
      refine z_iload_n (n := 197) dX15_by_196 rfl 0 rfl rfl ?_
      refine z_if_eq (n := 200) (t := 204) dX15_by_197 rfl (by decide) (fun hc => ?_) (fun hc => ?_)
      · replace hF := (if_pos hc).symm.trans hF
        refine z_iconst (n := 205) (v := 0) dX15_by_204 rfl (by decide) ?_
        have hF := Option.some.inj hF; subst hF
        exact z_iret dX15_by_205 rfl rfl ⟨rfl, rfl, rfl, rfl, rfl⟩
      · replace hF := (if_neg hc).symm.trans hF
        refine z_iconst (n := 201) (v := 1) dX15_by_200 rfl (by decide) ?_
        refine z_goto (t := 205) dX15_by_201 (by decide) ?_
        have hF := Option.some.inj hF; subst hF
        exact z_iret dX15_by_205 rfl rfl ⟨rfl, rfl, rfl, rfl, rfl⟩
  by_cases ht54 : (I o0 0) = 54
  · refine z_tableIn (off := 170) (t := 192) dX15_by_22 (by rw [ht54]; decide) (by rw [ht54]; decide) (by rw [ht54]; rfl) (by decide) ?_
    refine z_iload_n (n := 193) dX15_by_192 rfl 1 rfl rfl ?_
    refine z_if_ne (n := 196) (t := 200) dX15_by_193 rfl (by decide) (fun hc => ?_) (fun hc => ?_)
    · replace hF := (if_pos hc).symm.trans hF
      refine z_iconst (n := 201) (v := 1) dX15_by_200 rfl (by decide) ?_
      refine z_goto (t := 205) dX15_by_201 (by decide) ?_
      have hF := Option.some.inj hF; subst hF
      exact z_iret dX15_by_205 rfl rfl ⟨rfl, rfl, rfl, rfl, rfl⟩
    · replace hF := (if_neg hc).symm.trans hF
      refine z_iload_n (n := 197) dX15_by_196 rfl 0 rfl rfl ?_
      refine z_if_eq (n := 200) (t := 204) dX15_by_197 rfl (by decide) (fun hc => ?_) (fun hc => ?_)
      · replace hF := (if_pos hc).symm.trans hF
        refine z_iconst (n := 205) (v := 0) dX15_by_204 rfl (by decide) ?_
        have hF := Option.some.inj hF; subst hF
        exact z_iret dX15_by_205 rfl rfl ⟨rfl, rfl, rfl, rfl, rfl⟩
      · replace hF := (if_neg hc).symm.trans hF
        refine z_iconst (n := 201) (v := 1) dX15_by_200 rfl (by decide) ?_
        refine z_goto (t := 205) dX15_by_201 (by decide) ?_
        have hF := Option.some.inj hF; subst hF
        exact z_iret dX15_by_205 rfl rfl ⟨rfl, rfl, rfl, rfl, rfl⟩
  by_cases ht55 : (I o0 0) = 55
  · refine z_tableIn (off := 170) (t := 192) dX15_by_22 (by rw [ht55]; decide) (by rw [ht55]; decide) (by rw [ht55]; rfl) (by decide) ?_
    refine z_iload_n (n := 193) dX15_by_192 rfl 1 rfl rfl ?_
    refine z_if_ne (n := 196) (t := 200) dX15_by_193 rfl (by decide) (fun hc => ?_) (fun hc => ?_)
    · replace hF := (if_pos hc).symm.trans hF
      refine z_iconst (n := 201) (v := 1) dX15_by_200 rfl (by decide) ?_
      refine z_goto (t := 205) dX15_by_201 (by decide) ?_
      have hF := Option.some.inj hF; subst hF
      exact z_iret dX15_by_205 rfl rfl ⟨rfl, rfl, rfl, rfl, rfl⟩
    · replace hF := (if_neg hc).symm.trans hF
      refine z_iload_n (n := 197) dX15_by_196 rfl 0 rfl rfl ?_
      refine z_if_eq (n := 200) (t := 204) dX15_by_197 rfl (by decide) (fun hc => ?_) (fun hc => ?_)
      · replace hF := (if_pos hc).symm.trans hF
        refine z_iconst (n := 205) (v := 0) dX15_by_204 rfl (by decide) ?_
        have hF := Option.some.inj hF; subst hF
        exact z_iret dX15_by_205 rfl rfl ⟨rfl, rfl, rfl, rfl, rfl⟩
      · replace hF := (if_neg hc).symm.trans hF
        refine z_iconst (n := 201) (v := 1) dX15_by_200 rfl (by decide) ?_
        refine z_goto (t := 205) dX15_by_201 (by decide) ?_
        have hF := Option.some.inj hF; subst hF
        exact z_iret dX15_by_205 rfl rfl ⟨rfl, rfl, rfl, rfl, rfl⟩
  by_cases ht56 : (I o0 0) = 56
  · refine z_tableIn (off := 170) (t := 192) dX15_by_22 (by rw [ht56]; decide) (by rw [ht56]; decide) (by rw [ht56]; rfl) (by decide) ?_
    refine z_iload_n (n := 193) dX15_by_192 rfl 1 rfl rfl ?_
    refine z_if_ne (n := 196) (t := 200) dX15_by_193 rfl (by decide) (fun hc => ?_) (fun hc => ?_)
    · replace hF := (if_pos hc).symm.trans hF
      refine z_iconst (n := 201) (v := 1) dX15_by_200 rfl (by decide) ?_
      refine z_goto (t := 205) dX15_by_201 (by decide) ?_
      have hF := Option.some.inj hF; subst hF
      exact z_iret dX15_by_205 rfl rfl ⟨rfl, rfl, rfl, rfl, rfl⟩
    · replace hF := (if_neg hc).symm.trans hF
      refine z_iload_n (n := 197) dX15_by_196 rfl 0 rfl rfl ?_
      refine z_if_eq (n := 200) (t := 204) dX15_by_197 rfl (by decide) (fun hc => ?_) (fun hc => ?_)
      · replace hF := (if_pos hc).symm.trans hF
        refine z_iconst (n := 205) (v := 0) dX15_by_204 rfl (by decide) ?_
        have hF := Option.some.inj hF; subst hF
        exact z_iret dX15_by_205 rfl rfl ⟨rfl, rfl, rfl, rfl, rfl⟩
      · replace hF := (if_neg hc).symm.trans hF
        refine z_iconst (n := 201) (v := 1) dX15_by_200 rfl (by decide) ?_
        refine z_goto (t := 205) dX15_by_201 (by decide) ?_
        have hF := Option.some.inj hF; subst hF
        exact z_iret dX15_by_205 rfl rfl ⟨rfl, rfl, rfl, rfl, rfl⟩
  by_cases ht57 : (I o0 0) = 57
  · refine z_tableIn (off := 170) (t := 192) dX15_by_22 (by rw [ht57]; decide) (by rw [ht57]; decide) (by rw [ht57]; rfl) (by decide) ?_
    refine z_iload_n (n := 193) dX15_by_192 rfl 1 rfl rfl ?_
    refine z_if_ne (n := 196) (t := 200) dX15_by_193 rfl (by decide) (fun hc => ?_) (fun hc => ?_)
    · replace hF := (if_pos hc).symm.trans hF
      refine z_iconst (n := 201) (v := 1) dX15_by_200 rfl (by decide) ?_
      refine z_goto (t := 205) dX15_by_201 (by decide) ?_
      have hF := Option.some.inj hF; subst hF
      exact z_iret dX15_by_205 rfl rfl ⟨rfl, rfl, rfl, rfl, rfl⟩
    · replace hF := (if_neg hc).symm.trans hF
      refine z_iload_n (n := 197) dX15_by_196 rfl 0 rfl rfl ?_
      refine z_if_eq (n := 200) (t := 204) dX15_by_197 rfl (by decide) (fun hc => ?_) (fun hc => ?_)
      · replace hF := (if_pos hc).symm.trans hF
        refine z_iconst (n := 205) (v := 0) dX15_by_204 rfl (by decide) ?_
        have hF := Option.some.inj hF; subst hF
        exact z_iret dX15_by_205 rfl rfl ⟨rfl, rfl, rfl, rfl, rfl⟩
      · replace hF := (if_neg hc).symm.trans hF
        refine z_iconst (n := 201) (v := 1) dX15_by_200 rfl (by decide) ?_
        refine z_goto (t := 205) dX15_by_201 (by decide) ?_
        have hF := Option.some.inj hF; subst hF
        exact z_iret dX15_by_205 rfl rfl ⟨rfl, rfl, rfl, rfl, rfl⟩
  by_cases ht58 : (I o0 0) = 58
  · refine z_tableIn (off := 170) (t := 192) dX15_by_22 (by rw [ht58]; decide) (by rw [ht58]; decide) (by rw [ht58]; rfl) (by decide) ?_
    refine z_iload_n (n := 193) dX15_by_192 rfl 1 rfl rfl ?_
    refine z_if_ne (n := 196) (t := 200) dX15_by_193 rfl (by decide) (fun hc => ?_) (fun hc => ?_)
    · replace hF := (if_pos hc).symm.trans hF
      refine z_iconst (n := 201) (v := 1) dX15_by_200 rfl (by decide) ?_
      refine z_goto (t := 205) dX15_by_201 (by decide) ?_
      have hF := Option.some.inj hF; subst hF
      exact z_iret dX15_by_205 rfl rfl ⟨rfl, rfl, rfl, rfl, rfl⟩
    · replace hF := (if_neg hc).symm.trans hF
      refine z_iload_n (n := 197) dX15_by_196 rfl 0 rfl rfl ?_
      refine z_if_eq (n := 200) (t := 204) dX15_by_197 rfl (by decide) (fun hc => ?_) (fun hc => ?_)
      · replace hF := (if_pos hc).symm.trans hF
        refine z_iconst (n := 205) (v := 0) dX15_by_204 rfl (by decide) ?_
        have hF := Option.some.inj hF; subst hF
        exact z_iret dX15_by_205 rfl rfl ⟨rfl, rfl, rfl, rfl, rfl⟩
      · replace hF := (if_neg hc).symm.trans hF
        refine z_iconst (n := 201) (v := 1) dX15_by_200 rfl (by decide) ?_
        refine z_goto (t := 205) dX15_by_201 (by decide) ?_
        have hF := Option.some.inj hF; subst hF
        exact z_iret dX15_by_205 rfl rfl ⟨rfl, rfl, rfl, rfl, rfl⟩
  by_cases ht59 : (I o0 0) = 59
  · refine z_tableIn (off := 170) (t := 192) dX15_by_22 (by rw [ht59]; decide) (by rw [ht59]; decide) (by rw [ht59]; rfl) (by decide) ?_
    refine z_iload_n (n := 193) dX15_by_192 rfl 1 rfl rfl ?_
    refine z_if_ne (n := 196) (t := 200) dX15_by_193 rfl (by decide) (fun hc => ?_) (fun hc => ?_)
    · replace hF := (if_pos hc).symm.trans hF
      refine z_iconst (n := 201) (v := 1) dX15_by_200 rfl (by decide) ?_
      refine z_goto (t := 205) dX15_by_201 (by decide) ?_
      have hF := Option.some.inj hF; subst hF
      exact z_iret dX15_by_205 rfl rfl ⟨rfl, rfl, rfl, rfl, rfl⟩
    · replace hF := (if_neg hc).symm.trans hF
      refine z_iload_n (n := 197) dX15_by_196 rfl 0 rfl rfl ?_
      refine z_if_eq (n := 200) (t := 204) dX15_by_197 rfl (by decide) (fun hc => ?_) (fun hc => ?_)
      · replace hF := (if_pos hc).symm.trans hF
        refine z_iconst (n := 205) (v := 0) dX15_by_204 rfl (by decide) ?_
        have hF := Option.some.inj hF; subst hF
        exact z_iret dX15_by_205 rfl rfl ⟨rfl, rfl, rfl, rfl, rfl⟩
      · replace hF := (if_neg hc).symm.trans hF
        refine z_iconst (n := 201) (v := 1) dX15_by_200 rfl (by decide) ?_
        refine z_goto (t := 205) dX15_by_201 (by decide) ?_
        have hF := Option.some.inj hF; subst hF
        exact z_iret dX15_by_205 rfl rfl ⟨rfl, rfl, rfl, rfl, rfl⟩
  refine z_tableOut (t := 192) dX15_by_22 (by have := lv_neT (a := 38) ht38 (by decide); have := lv_neT (a := 42) ht42 (by decide); have := lv_neT (a := 43) ht43 (by decide); have := lv_neT (a := 45) ht45 (by decide); have := lv_neT (a := 47) ht47 (by decide); have := lv_neT (a := 60) ht60 (by decide); have := lv_neT (a := 61) ht61 (by decide); have := lv_neT (a := 39) ht39 (by decide); have := lv_neT (a := 40) ht40 (by decide); have := lv_neT (a := 41) ht41 (by decide); have := lv_neT (a := 44) ht44 (by decide); have := lv_neT (a := 46) ht46 (by decide); have := lv_neT (a := 48) ht48 (by decide); have := lv_neT (a := 49) ht49 (by decide); have := lv_neT (a := 50) ht50 (by decide); have := lv_neT (a := 51) ht51 (by decide); have := lv_neT (a := 52) ht52 (by decide); have := lv_neT (a := 53) ht53 (by decide); have := lv_neT (a := 54) ht54 (by decide); have := lv_neT (a := 55) ht55 (by decide); have := lv_neT (a := 56) ht56 (by decide); have := lv_neT (a := 57) ht57 (by decide); have := lv_neT (a := 58) ht58 (by decide); have := lv_neT (a := 59) ht59 (by decide); omega) (by decide) ?_
  refine z_iload_n (n := 193) dX15_by_192 rfl 1 rfl rfl ?_
  refine z_if_ne (n := 196) (t := 200) dX15_by_193 rfl (by decide) (fun hc => ?_) (fun hc => ?_)
  · replace hF := (if_pos hc).symm.trans hF
    refine z_iconst (n := 201) (v := 1) dX15_by_200 rfl (by decide) ?_
    refine z_goto (t := 205) dX15_by_201 (by decide) ?_
    have hF := Option.some.inj hF; subst hF
    exact z_iret dX15_by_205 rfl rfl ⟨rfl, rfl, rfl, rfl, rfl⟩
  · replace hF := (if_neg hc).symm.trans hF
    refine z_iload_n (n := 197) dX15_by_196 rfl 0 rfl rfl ?_
    refine z_if_eq (n := 200) (t := 204) dX15_by_197 rfl (by decide) (fun hc => ?_) (fun hc => ?_)
    · replace hF := (if_pos hc).symm.trans hF
      refine z_iconst (n := 205) (v := 0) dX15_by_204 rfl (by decide) ?_
      have hF := Option.some.inj hF; subst hF
      exact z_iret dX15_by_205 rfl rfl ⟨rfl, rfl, rfl, rfl, rfl⟩
    · replace hF := (if_neg hc).symm.trans hF
      refine z_iconst (n := 201) (v := 1) dX15_by_200 rfl (by decide) ?_
      refine z_goto (t := 205) dX15_by_201 (by decide) ?_
      have hF := Option.some.inj hF; subst hF
      exact z_iret dX15_by_205 rfl rfl ⟨rfl, rfl, rfl, rfl, rfl⟩
theorem fX16_7_14 : zFld RX16 7 14 0 := ⟨_, rfl, by decide, _, Or.inl q1335, Or.inl rfl⟩
abbrev MX16_by : zM := (RX16, cX16_by, 2, (some .int), "by", [])
noncomputable def F_X16_by (K : zKd) (F : zFd) (by_ : Nat → Nat → zId → Option Int32) (fb : Nat) (lb : Nat) (o0 : Nat) (a0 : Nat) (I : zId) : Option (Int32) := zka K o0 14 (fun n_1 => zg (decide (600 ≤ o0)) (zb1 (F o0 0) (fun o_4 => zb1 (by_ o_4 a0 I) (fun x_6 => if ¬ x_6 = 0 then some 0 else some 1))))
set_option maxHeartbeats 1000000 in
theorem C_X16_by {l : Launch} {G : zGt} (htr : l.stackTraces = false) {K : zKd} {F : zFd} {L : zLd} {by_ : Nat → Nat → zId → Option Int32} {fb : Nat} {lb : Nat} {o0 : Nat} {a0 : Nat} (hby : ∀ o v I r, by_ o v I = some r → zBy l G K F L fb lb o v I r) {I : zId} {r : Int32} (hF : F_X16_by K F by_ fb lb o0 a0 I = some r) : zMet l G yX16_by (ws_ yX16_by cX16_by 2 (some .int)) (fb + 1) (lb + 23) 0 0 [.ref o0, .ref a0] K F I L (zQe (.inl (some (.int r))) K F I L) := by
  refine zMet.of (by decide +kernel) htr (Nat.le_of_ble_eq_true rfl) ?_
  change zW l G MX16_by (fb + 1) (lb + 23) 0 0 0 [(0, .ref o0), (1, .ref a0)] [] K F I L (zQe (.inl (some (.int r))) K F I L)
  unfold F_X16_by at hF
  refine z_aload_n (n := 1) dX16_by_0 rfl 0 rfl rfl ?_
  obtain ⟨n_1, hk_2, hF⟩ := zka_some hF
  obtain ⟨hb_3, hF⟩ := zg_some hF
  obtain ⟨o_4, hr_5, hF⟩ := zb1_some hF
  refine z_getRS (n := 4) dX16_by_1 rfl zok14 fX16_7_14 rfl hk_2 (Or.inl (zbig hb_3)) hr_5 ?_
  refine z_aload_n (n := 5) dX16_by_4 rfl 1 rfl rfl ?_
  obtain ⟨x_6, c_7, hF⟩ := zb1_some hF
  refine z_by (n := 8) (st := []) (hby _ _ _ _ c_7) dX16_by_5 rfl q883 (Nat.le_refl _) (by omega) (Nat.le_of_ble_eq_true rfl) ?_
  refine z_if_ne (n := 11) (t := 15) dX16_by_8 rfl (by decide) (fun hc => ?_) (fun hc => ?_)
  · replace hF := (if_pos hc).symm.trans hF
    refine z_iconst (n := 16) (v := 0) dX16_by_15 rfl (by decide) ?_
    have hF := Option.some.inj hF; subst hF
    exact z_iret dX16_by_16 rfl rfl ⟨rfl, rfl, rfl, rfl, rfl⟩
  · replace hF := (if_neg hc).symm.trans hF
    refine z_iconst (n := 12) (v := 1) dX16_by_11 rfl (by decide) ?_
    refine z_goto (t := 16) dX16_by_12 (by decide) ?_
    have hF := Option.some.inj hF; subst hF
    exact z_iret dX16_by_16 rfl rfl ⟨rfl, rfl, rfl, rfl, rfl⟩
noncomputable def F_by : Nat → zKd → zFd → Nat → Nat → zId → Option Int32
  | 0, _, _, _, _, _ => none
  | d + 1, K, F, o, v, I => match K o with
    | some (11, _) => F_X13_by K F o v I
    | some (12, _) => F_X14_by K F o v I
    | some (13, _) => F_X15_by K F (F_by d K F) 0 0 o v I
    | some (14, _) => F_X16_by K F (F_by d K F) 0 0 o v I
    | _ => none
theorem C_by {l : Launch} {G : zGt} (htr : l.stackTraces = false) {K : zKd} {F : zFd} {L : zLd} : ∀ (d o v : Nat) (I : zId) (r : Int32), F_by d K F o v I = some r → zBy l G K F L (d + 1) (23 * d + 40) o v I r := by
  intro d
  induction d with
  | zero => intro o v I r h; cases h
  | succ d ih =>
    intro o v I r h
    unfold F_by at h
    split at h
    · rename_i n e
      exact Or.inl ⟨n, e, zMet.up (C_X13_by htr h) (by omega) (by omega)⟩
    · rename_i n e
      exact Or.inr (Or.inl ⟨n, e, zMet.up (C_X14_by htr h) (by omega) (by omega)⟩)
    · rename_i n e
      exact Or.inr (Or.inr (Or.inl ⟨n, e, zMet.up (C_X15_by htr (fb := d + 1) (lb := 23 * d + 40) ih h) (by omega) (by omega)⟩))
    · rename_i n e
      exact Or.inr (Or.inr (Or.inr ⟨n, e, zMet.up (C_X16_by htr (fb := d + 1) (lb := 23 * d + 40) ih h) (by omega) (by omega)⟩))
    · cases h
theorem fX10_16_9 : zFld RX10 16 9 2 := ⟨_, rfl, by decide, _, Or.inl q1131, Or.inl rfl⟩
theorem fX10_19_9 : zFld RX10 19 9 3 := ⟨_, rfl, by decide, _, Or.inl q1133, Or.inl rfl⟩
abbrev MX10_grown : zM := (RX10, cX10_grown, 2, (some .int), "grown", [])
noncomputable def F_X10_grown (K : zKd) (F : zFd) (o0 : Nat) (a0 : Int32) (I : zId) : Option (Int32) := zka K o0 9 (fun n_1 => zg (decide (600 ≤ o0)) (some (zmax a0 (zmin (I o0 2) (a0 + ((a0 * (I o0 3)) / 100))))))
set_option maxHeartbeats 1000000 in
theorem C_X10_grown {l : Launch} {G : zGt} (htr : l.stackTraces = false) {K : zKd} {F : zFd} {L : zLd} {o0 : Nat} {a0 : Int32} {I : zId} {r : Int32} (hF : F_X10_grown K F o0 a0 I = some r) : zMet l G yX10_grown (ws_ yX10_grown cX10_grown 2 (some .int)) 1 24 0 0 [.ref o0, .int a0] K F I L (zQe (.inl (some (.int r))) K F I L) := by
  refine zMet.of (by decide +kernel) htr (Nat.le_of_ble_eq_true rfl) ?_
  change zW l G MX10_grown 1 24 0 0 0 [(0, .ref o0), (1, .int a0)] [] K F I L (zQe (.inl (some (.int r))) K F I L)
  unfold F_X10_grown at hF
  refine z_iload_n (n := 1) dX10_grown_0 rfl 1 rfl rfl ?_
  refine z_aload_n (n := 2) dX10_grown_1 rfl 0 rfl rfl ?_
  obtain ⟨n_1, hk_2, hF⟩ := zka_some hF
  obtain ⟨hb_3, hF⟩ := zg_some hF
  refine z_getI (n := 5) dX10_grown_2 rfl zok9 fX10_16_9 rfl hk_2 (Or.inl (zbig hb_3)) ?_
  refine z_iload_n (n := 6) dX10_grown_5 rfl 1 rfl rfl ?_
  refine z_iload_n (n := 7) dX10_grown_6 rfl 1 rfl rfl ?_
  refine z_aload_n (n := 8) dX10_grown_7 rfl 0 rfl rfl ?_
  refine z_getI (n := 11) dX10_grown_8 rfl zok9 fX10_19_9 rfl hk_2 (Or.inl (zbig hb_3)) ?_
  refine z_imul (n := 12) dX10_grown_11 rfl ?_
  refine z_bipush (n := 14) (v := 100) dX10_grown_12 rfl (by decide) ?_
  refine z_idiv (n := 15) dX10_grown_14 rfl (by decide) ?_
  refine z_iadd (n := 16) dX10_grown_15 rfl ?_
  refine z_min (n := 19) dX10_grown_16 rfl q907 q290 q119 q291 (by decide) (Nat.le_of_ble_eq_true rfl) ?_
  refine z_max (n := 22) dX10_grown_19 rfl q908 q272 q119 q273 (by decide) (Nat.le_of_ble_eq_true rfl) ?_
  have hF := Option.some.inj hF; subst hF
  exact z_iret dX10_grown_22 rfl rfl ⟨rfl, rfl, rfl, rfl, rfl⟩
abbrev MX10_grownBlack : zM := (RX10, cX10_grownBlack, 3, (some .int), "grownBlack", [])
noncomputable def F_X10_grownBlack (K : zKd) (F : zFd) (o0 : Nat) (a0 : Int32) (a1 : Int32) (I : zId) : Option (Int32) := zka K o0 9 (fun n_1 => zg (decide (600 ≤ o0)) (some (zmin a1 (a0 + ((a0 * (I o0 3)) / 100)))))
set_option maxHeartbeats 1000000 in
theorem C_X10_grownBlack {l : Launch} {G : zGt} (htr : l.stackTraces = false) {K : zKd} {F : zFd} {L : zLd} {o0 : Nat} {a0 : Int32} {a1 : Int32} {I : zId} {r : Int32} (hF : F_X10_grownBlack K F o0 a0 a1 I = some r) : zMet l G yX10_grownBlack (ws_ yX10_grownBlack cX10_grownBlack 3 (some .int)) 1 24 0 0 [.ref o0, .int a0, .int a1] K F I L (zQe (.inl (some (.int r))) K F I L) := by
  refine zMet.of (by decide +kernel) htr (Nat.le_of_ble_eq_true rfl) ?_
  change zW l G MX10_grownBlack 1 24 0 0 0 [(0, .ref o0), (1, .int a0), (2, .int a1)] [] K F I L (zQe (.inl (some (.int r))) K F I L)
  unfold F_X10_grownBlack at hF
  refine z_iload_n (n := 1) dX10_grownBlack_0 rfl 2 rfl rfl ?_
  refine z_iload_n (n := 2) dX10_grownBlack_1 rfl 1 rfl rfl ?_
  refine z_iload_n (n := 3) dX10_grownBlack_2 rfl 1 rfl rfl ?_
  refine z_aload_n (n := 4) dX10_grownBlack_3 rfl 0 rfl rfl ?_
  obtain ⟨n_1, hk_2, hF⟩ := zka_some hF
  obtain ⟨hb_3, hF⟩ := zg_some hF
  refine z_getI (n := 7) dX10_grownBlack_4 rfl zok9 fX10_19_9 rfl hk_2 (Or.inl (zbig hb_3)) ?_
  refine z_imul (n := 8) dX10_grownBlack_7 rfl ?_
  refine z_bipush (n := 10) (v := 100) dX10_grownBlack_8 rfl (by decide) ?_
  refine z_idiv (n := 11) dX10_grownBlack_10 rfl (by decide) ?_
  refine z_iadd (n := 12) dX10_grownBlack_11 rfl ?_
  refine z_min (n := 15) dX10_grownBlack_12 rfl q907 q290 q119 q291 (by decide) (Nat.le_of_ble_eq_true rfl) ?_
  have hF := Option.some.inj hF; subst hF
  exact z_iret dX10_grownBlack_15 rfl rfl ⟨rfl, rfl, rfl, rfl, rfl⟩
theorem fX6_24_5 : zFld RX6 24 5 4 := ⟨_, rfl, by decide, _, Or.inl q597, Or.inl rfl⟩
theorem fX6_71_1 : zFld RX6 71 1 5 := ⟨_, rfl, by decide, _, Or.inr ⟨_, q541⟩, Or.inl rfl⟩
abbrev MX6_others : zM := (RX6, cX6_others, 5, (some .int), "others", [])
noncomputable def F_X6_others_L5 (K : zKd) (F : zFd) (o0 : Nat) (a0 : Nat) (a1 : Int32) (I : zId) (v3_1 : Int32) (v4_2 : Int32) : Option ((Int32 × Int32) ⊕ (Int32)) := zka K a0 1 (fun n_3 => zg (decide (600 ≤ a0)) (zb1 (F a0 5) (fun o_6 => zka K o_6 2 (fun n_8 => zb1 (F_J2_size K F o_6 I) (fun x_11 => if x_11 ≤ v4_2 then some (.inr (v3_1)) else if v4_2 = a1 then zlet (v4_2 + 1) (fun v4_12 => some (.inl (v3_1, v4_12))) else zka K o0 5 (fun n_14 => zg (decide (600 ≤ o0)) (zb1 (F o0 4) (fun o_17 => zka K o_17 64 (fun n_19 => zg (zin v4_2 n_19) (zb1 (F o0 4) (fun o_22 => zka K o_22 64 (fun n_24 => zg (zin a1 n_24) (if ¬ (I o_17 v4_2.toNatClampNeg) = (I o_22 a1.toNatClampNeg) then zlet (v4_2 + 1) (fun v4_27 => some (.inl (v3_1, v4_27))) else zlet (v3_1 + 1) (fun v3_29 => zlet (v4_2 + 1) (fun v4_31 => some (.inl (v3_29, v4_31)))))))))))))))))
noncomputable def F_X6_others (K : zKd) (F : zFd) (o0 : Nat) (a0 : Nat) (a1 : Int32) (I : zId) : Option (Int32) := zb1 (zloop (fun s : Int32 × Int32 => F_X6_others_L5 K F o0 a0 a1 I s.1 s.2) (0, 0)) (fun v3_33 => some v3_33)
set_option maxHeartbeats 1000000 in
theorem W_X6_others_L5 {l : Launch} {G : zGt} (htr : l.stackTraces = false) {K : zKd} {F : zFd} {L : zLd} {Q : zQt} {o0 : Nat} {a0 : Nat} {a1 : Int32} {I : zId} {v3_1 : Int32} {v4_2 : Int32} {r : (Int32 × Int32) ⊕ (Int32)} (hF : F_X6_others_L5 K F o0 a0 a1 I v3_1 v4_2 = some r) (kl : ∀ (z0 : Int32) (z1 : Int32), r = .inl (z0, z1) → zW l G MX6_others 1 20 0 0 5 [(0, .ref o0), (1, .ref a0), (2, .int a1), (3, .int z0), (4, .int z1)] [] K F I L Q) (kx : ∀ (y0 : Int32), r = .inr y0 → zW l G MX6_others 1 20 0 0 48 [(3, .int y0)] [] K F I L Q)  : zW l G MX6_others 1 20 0 0 5 [(0, .ref o0), (1, .ref a0), (2, .int a1), (3, .int v3_1), (4, .int v4_2)] [] K F I L Q := by
  unfold F_X6_others_L5 at hF
  refine z_iload (n := 7) dX6_others_5 rfl 4 rfl ?_
  refine z_aload_n (n := 8) dX6_others_7 rfl 1 rfl rfl ?_
  obtain ⟨n_3, hk_4, hF⟩ := zka_some hF
  obtain ⟨hb_5, hF⟩ := zg_some hF
  obtain ⟨o_6, hr_7, hF⟩ := zb1_some hF
  refine z_getRS (n := 11) dX6_others_8 rfl zok1 fX6_71_1 rfl hk_4 (Or.inl (zbig hb_5)) hr_7 ?_
  obtain ⟨n_8, hk_9, hF⟩ := zka_some hF
  obtain ⟨x_11, c_10, hF⟩ := zb1_some hF
  refine z_cV (n := 14) (st := [.int v4_2]) (C_J2_size htr c_10) dX6_others_11 rfl (lw_V q833 q834 q835 q109 q836) hcee_J2_size rfl (by decide) hk_9 rfl rfl rfl (Nat.le_of_ble_eq_true rfl) (Nat.le_refl _) (Nat.le_refl _) ?_
  refine z_icmp_ge (n := 17) (t := 48) dX6_others_14 rfl (by decide) (fun hc => ?_) (fun hc => ?_)
  · replace hF := (if_pos hc).symm.trans hF
    refine z_sub [3] rfl ?_
    have hF := Option.some.inj hF; subst hF
    exact kx v3_1 rfl
  · replace hF := (if_neg hc).symm.trans hF
    refine z_iload (n := 19) dX6_others_17 rfl 4 rfl ?_
    refine z_iload_n (n := 20) dX6_others_19 rfl 2 rfl rfl ?_
    refine z_icmp_eq (n := 23) (t := 42) dX6_others_20 rfl (by decide) (fun hc => ?_) (fun hc => ?_)
    · replace hF := (if_pos hc).symm.trans hF
      obtain ⟨v4_12, e_13, hF⟩ := zlet_ob hF
      refine z_iincE (n := 45) (w := 1) (v := v4_12) (lv' := [(4, .int v4_12), (0, .ref o0), (1, .ref a0), (2, .int a1), (3, .int v3_1)]) dX6_others_42 rfl 4 rfl (by decide) e_13 (by decide) rfl ?_
      refine z_goto (t := 5) dX6_others_45 (by decide) ?_
      refine z_sub [1, 2, 3, 4, 0] rfl ?_
      have hF := Option.some.inj hF; subst hF
      exact kl v3_1 v4_12 rfl
    · replace hF := (if_neg hc).symm.trans hF
      refine z_aload_n (n := 24) dX6_others_23 rfl 0 rfl rfl ?_
      obtain ⟨n_14, hk_15, hF⟩ := zka_some hF
      obtain ⟨hb_16, hF⟩ := zg_some hF
      obtain ⟨o_17, hr_18, hF⟩ := zb1_some hF
      refine z_getRS (n := 27) dX6_others_24 rfl zok5 fX6_24_5 rfl hk_15 (Or.inl (zbig hb_16)) hr_18 ?_
      refine z_iload (n := 29) dX6_others_27 rfl 4 rfl ?_
      obtain ⟨n_19, hk_20, hF⟩ := zka_some hF
      obtain ⟨h_21, hF⟩ := zg_some hF
      refine z_ialdK (n := 30) v4_2.toNatClampNeg rfl dX6_others_29 rfl hk_20 (zin_ok h_21) ?_
      refine z_aload_n (n := 31) dX6_others_30 rfl 0 rfl rfl ?_
      obtain ⟨o_22, hr_23, hF⟩ := zb1_some hF
      refine z_getRS (n := 34) dX6_others_31 rfl zok5 fX6_24_5 rfl hk_15 (Or.inl (zbig hb_16)) hr_23 ?_
      refine z_iload_n (n := 35) dX6_others_34 rfl 2 rfl rfl ?_
      obtain ⟨n_24, hk_25, hF⟩ := zka_some hF
      obtain ⟨h_26, hF⟩ := zg_some hF
      refine z_ialdK (n := 36) a1.toNatClampNeg rfl dX6_others_35 rfl hk_25 (zin_ok h_26) ?_
      refine z_icmp_ne (n := 39) (t := 42) dX6_others_36 rfl (by decide) (fun hc => ?_) (fun hc => ?_)
      · replace hF := (if_pos hc).symm.trans hF
        obtain ⟨v4_27, e_28, hF⟩ := zlet_ob hF
        refine z_iincE (n := 45) (w := 1) (v := v4_27) (lv' := [(4, .int v4_27), (0, .ref o0), (1, .ref a0), (2, .int a1), (3, .int v3_1)]) dX6_others_42 rfl 4 rfl (by decide) e_28 (by decide) rfl ?_
        refine z_goto (t := 5) dX6_others_45 (by decide) ?_
        refine z_sub [1, 2, 3, 4, 0] rfl ?_
        have hF := Option.some.inj hF; subst hF
        exact kl v3_1 v4_27 rfl
      · replace hF := (if_neg hc).symm.trans hF
        obtain ⟨v3_29, e_30, hF⟩ := zlet_ob hF
        refine z_iincE (n := 42) (w := 1) (v := v3_29) (lv' := [(3, .int v3_29), (0, .ref o0), (1, .ref a0), (2, .int a1), (4, .int v4_2)]) dX6_others_39 rfl 3 rfl (by decide) e_30 (by decide) rfl ?_
        obtain ⟨v4_31, e_32, hF⟩ := zlet_ob hF
        refine z_iincE (n := 45) (w := 1) (v := v4_31) (lv' := [(4, .int v4_31), (3, .int v3_29), (0, .ref o0), (1, .ref a0), (2, .int a1)]) dX6_others_42 rfl 4 rfl (by decide) e_32 (by decide) rfl ?_
        refine z_goto (t := 5) dX6_others_45 (by decide) ?_
        refine z_sub [2, 3, 4, 1, 0] rfl ?_
        have hF := Option.some.inj hF; subst hF
        exact kl v3_29 v4_31 rfl
set_option maxHeartbeats 1000000 in
theorem C_X6_others {l : Launch} {G : zGt} (htr : l.stackTraces = false) {K : zKd} {F : zFd} {L : zLd} {o0 : Nat} {a0 : Nat} {a1 : Int32} {I : zId} {r : Int32} (hF : F_X6_others K F o0 a0 a1 I = some r) : zMet l G yX6_others (ws_ yX6_others cX6_others 5 (some .int)) 1 20 0 0 [.ref o0, .ref a0, .int a1] K F I L (zQe (.inl (some (.int r))) K F I L) := by
  refine zMet.of (by decide +kernel) htr (Nat.le_of_ble_eq_true rfl) ?_
  change zW l G MX6_others 1 20 0 0 0 [(0, .ref o0), (1, .ref a0), (2, .int a1)] [] K F I L (zQe (.inl (some (.int r))) K F I L)
  unfold F_X6_others at hF
  refine z_iconst (n := 1) (v := 0) dX6_others_0 rfl (by decide) ?_
  refine z_istore_nE (n := 2) (lv' := [(3, .int 0), (0, .ref o0), (1, .ref a0), (2, .int a1)]) dX6_others_1 rfl rfl rfl (by decide) rfl ?_
  refine z_iconst (n := 3) (v := 0) dX6_others_2 rfl (by decide) ?_
  refine z_istoreE (n := 5) (lv' := [(4, .int 0), (3, .int 0), (0, .ref o0), (1, .ref a0), (2, .int a1)]) dX6_others_3 rfl rfl (by decide) rfl ?_
  refine z_sub [2, 3, 4, 1, 0] rfl ?_
  obtain ⟨t_35, e_34, hF⟩ := zb1_some hF
  obtain ⟨v3_33, rfl⟩ : ∃ z, z = t_35 := ⟨_, rfl⟩
  have H_36 : zW l G MX6_others 1 20 0 0 48 [(3, .int v3_33)] [] K F I L (zQe (.inl (some (.int r))) K F I L) := by
    refine z_iload_n (n := 49) dX6_others_48 rfl 0 rfl rfl ?_
    have hF := Option.some.inj hF; subst hF
    exact z_iret dX6_others_49 rfl rfl ⟨rfl, rfl, rfl, rfl, rfl⟩
  refine zloop_ind (P := fun s : Int32 × Int32 => zW l G MX6_others 1 20 0 0 5 [(0, .ref o0), (1, .ref a0), (2, .int a1), (3, .int s.1), (4, .int s.2)] [] K F I L (zQe (.inl (some (.int r))) K F I L)) (fun s r hb kl kr => ?_) e_34
  exact W_X6_others_L5 (o0 := o0) (a0 := a0) (a1 := a1) htr hb (fun z0 z1 e => kl _ e) (fun y0 e => by cases kr _ e; exact H_36)
theorem fX6_9_5 : zFld RX6 9 5 0 := ⟨_, rfl, by decide, _, Or.inl q589, Or.inl rfl⟩
theorem fX6_18_5 : zFld RX6 18 5 2 := ⟨_, rfl, by decide, _, Or.inl q593, Or.inl rfl⟩
theorem fX6_21_5 : zFld RX6 21 5 3 := ⟨_, rfl, by decide, _, Or.inl q595, Or.inl rfl⟩
theorem fX6_27_5 : zFld RX6 27 5 5 := ⟨_, rfl, by decide, _, Or.inl q599, Or.inl rfl⟩
theorem fX6_30_5 : zFld RX6 30 5 6 := ⟨_, rfl, by decide, _, Or.inl q601, Or.inl rfl⟩
theorem fX6_33_5 : zFld RX6 33 5 7 := ⟨_, rfl, by decide, _, Or.inl q603, Or.inl rfl⟩
theorem fX6_39_5 : zFld RX6 39 5 9 := ⟨_, rfl, by decide, _, Or.inl q607, Or.inl rfl⟩
theorem fX6_89_1 : zFld RX6 89 1 9 := ⟨_, rfl, by decide, _, Or.inr ⟨_, q550⟩, Or.inl rfl⟩
theorem fX6_99_1 : zFld RX6 99 1 10 := ⟨_, rfl, by decide, _, Or.inr ⟨_, q553⟩, Or.inl rfl⟩
theorem fX6_124_1 : zFld RX6 124 1 0 := ⟨_, rfl, by decide, _, Or.inr ⟨_, q523⟩, Or.inl rfl⟩
theorem hcee_X3_sees : zCee yX3_sees RX3 2 := ⟨rfl, by decide +kernel, by decide +kernel, by decide +kernel⟩
theorem hcee_X6_others : zCee yX6_others RX6 2 := ⟨rfl, by decide +kernel, by decide +kernel, by decide +kernel⟩
abbrev MX6_takes : zM := (RX6, cX6_takes, 5, (some .int), "takes", [])
noncomputable def F_X6_takes (K : zKd) (F : zFd) (o0 : Nat) (a0 : Nat) (a1 : Int32) (I : zId) : Option (Int32 × zId) := zka K o0 5 (fun n_1 => zg (decide (600 ≤ o0)) (zb1 (F o0 0) (fun o_4 => zb1 (F o0 4) (fun o_6 => zka K o_6 64 (fun n_8 => zg (zin a1 n_8) (zka K o_4 64 (fun n_11 => zg (zin (I o_6 a1.toNatClampNeg) n_11) (zlet (I o_4 ((I o_6 a1.toNatClampNeg).toNatClampNeg)) (fun v3_14 => zb1 (F o0 2) (fun o_16 => zb1 (F o0 4) (fun o_18 => zka K o_18 64 (fun n_20 => zg (zin a1 n_20) (zka K o_16 64 (fun n_23 => zg (zin (I o_18 a1.toNatClampNeg) n_23) (if (I o_16 ((I o_18 a1.toNatClampNeg).toNatClampNeg)) ≤ 0 then zka K a0 1 (fun n_26 => zg (decide (600 ≤ a0)) (if ¬ (F a0 9) = none then zb1 (F a0 10) (fun o_29 => zg (K 10).isSome (zb1 (F o0 3) (fun o_32 => zka K o_32 64 (fun n_34 => zg (zin a1 n_34) (zka K o_29 3 (fun n_37 => zb1 (F_X3_sees K F o_29 10 (I o_32 a1.toNatClampNeg) I) (fun I_40 => zg (K 11).isSome (zb1 (F_X3_sees K F o_29 11 v3_14 I_40) (fun I_43 => zg (K 12).isSome (zb1 (F o0 7) (fun o_45 => zka K o_45 64 (fun n_47 => zg (zin a1 n_47) (zb1 (F_X3_sees K F o_29 12 (I_43 o_45 a1.toNatClampNeg) I_43) (fun I_51 => zg (K 13).isSome (zb1 (F o0 5) (fun o_53 => zka K o_53 64 (fun n_55 => zg (zin a1 n_55) (zb1 (F_X3_sees K F o_29 13 ((I_51 a0 0) * (I_51 o_53 a1.toNatClampNeg)) I_51) (fun I_59 => zg (K 14).isSome (zb1 (F_X3_sees K F o_29 14 (I_59 o0 9) I_59) (fun I_62 => zg (K 15).isSome (zb1 (F o0 6) (fun o_64 => zka K o_64 64 (fun n_66 => zg (zin a1 n_66) (zb1 (F_X3_sees K F o_29 15 (I_62 o_64 a1.toNatClampNeg) I_62) (fun I_70 => zg (K 16).isSome (zb1 (F_X6_others K F o0 a0 a1 I_70) (fun x_73 => zb1 (F_X3_sees K F o_29 16 x_73 I_70) (fun I_75 => zb1 (F a0 9) (fun o_76 => zb1 (F_by 1000 K F o_76 o_29 I_75) (fun x_78 => some (zmax (0 : Int32) (zmin v3_14 x_78), I_75)))))))))))))))))))))))))))))))) else zb1 (F o0 3) (fun o_80 => zka K o_80 64 (fun n_82 => zg (zin a1 n_82) (some (zmin v3_14 ((3 : Int32) * (I o_80 a1.toNatClampNeg)), I)))))) else some (0, I))))))))))))))))
set_option maxHeartbeats 1000000 in
theorem C_X6_takes {l : Launch} {G : zGt} (htr : l.stackTraces = false) {K : zKd} {F : zFd} {L : zLd} {o0 : Nat} {a0 : Nat} {a1 : Int32} {I : zId} {r : Int32 × zId} (hF : F_X6_takes K F o0 a0 a1 I = some r) : zMet l G yX6_takes (ws_ yX6_takes cX6_takes 5 (some .int)) 1002 24000 0 0 [.ref o0, .ref a0, .int a1] K F I L (zQe (.inl (some (.int r.1))) K F r.2 L) := by
  refine zMet.of (by decide +kernel) htr (Nat.le_of_ble_eq_true rfl) ?_
  change zW l G MX6_takes 1002 24000 0 0 0 [(0, .ref o0), (1, .ref a0), (2, .int a1)] [] K F I L (zQe (.inl (some (.int r.1))) K F r.2 L)
  unfold F_X6_takes at hF
  refine z_aload_n (n := 1) dX6_takes_0 rfl 0 rfl rfl ?_
  obtain ⟨n_1, hk_2, hF⟩ := zka_some hF
  obtain ⟨hb_3, hF⟩ := zg_some hF
  obtain ⟨o_4, hr_5, hF⟩ := zb1_some hF
  refine z_getRS (n := 4) dX6_takes_1 rfl zok5 fX6_9_5 rfl hk_2 (Or.inl (zbig hb_3)) hr_5 ?_
  refine z_aload_n (n := 5) dX6_takes_4 rfl 0 rfl rfl ?_
  obtain ⟨o_6, hr_7, hF⟩ := zb1_some hF
  refine z_getRS (n := 8) dX6_takes_5 rfl zok5 fX6_24_5 rfl hk_2 (Or.inl (zbig hb_3)) hr_7 ?_
  refine z_iload_n (n := 9) dX6_takes_8 rfl 2 rfl rfl ?_
  obtain ⟨n_8, hk_9, hF⟩ := zka_some hF
  obtain ⟨h_10, hF⟩ := zg_some hF
  refine z_ialdK (n := 10) a1.toNatClampNeg rfl dX6_takes_9 rfl hk_9 (zin_ok h_10) ?_
  obtain ⟨n_11, hk_12, hF⟩ := zka_some hF
  obtain ⟨h_13, hF⟩ := zg_some hF
  refine z_ialdK (n := 11) ((I o_6 a1.toNatClampNeg).toNatClampNeg) rfl dX6_takes_10 rfl hk_12 (zin_ok h_13) ?_
  obtain ⟨v3_14, e_15, hF⟩ := zlet_ob hF
  refine z_istore_nE (n := 12) (lv' := [(3, .int v3_14), (0, .ref o0), (1, .ref a0), (2, .int a1)]) dX6_takes_11 rfl e_15 rfl (by decide) rfl ?_
  refine z_aload_n (n := 13) dX6_takes_12 rfl 1 rfl rfl ?_
  obtain ⟨o_16, hr_17, hF⟩ := zb1_some hF
  refine z_getRS (n := 16) dX6_takes_13 rfl zok5 fX6_18_5 rfl hk_2 (Or.inl (zbig hb_3)) hr_17 ?_
  refine z_aload_n (n := 17) dX6_takes_16 rfl 1 rfl rfl ?_
  obtain ⟨o_18, hr_19, hF⟩ := zb1_some hF
  refine z_getRS (n := 20) dX6_takes_17 rfl zok5 fX6_24_5 rfl hk_2 (Or.inl (zbig hb_3)) hr_19 ?_
  refine z_iload_n (n := 21) dX6_takes_20 rfl 3 rfl rfl ?_
  obtain ⟨n_20, hk_21, hF⟩ := zka_some hF
  obtain ⟨h_22, hF⟩ := zg_some hF
  refine z_ialdK (n := 22) a1.toNatClampNeg rfl dX6_takes_21 rfl hk_21 (zin_ok h_22) ?_
  obtain ⟨n_23, hk_24, hF⟩ := zka_some hF
  obtain ⟨h_25, hF⟩ := zg_some hF
  refine z_ialdK (n := 23) ((I o_18 a1.toNatClampNeg).toNatClampNeg) rfl dX6_takes_22 rfl hk_24 (zin_ok h_25) ?_
  refine z_if_le (n := 26) (t := 28) dX6_takes_23 rfl (by decide) (fun hc => ?_) (fun hc => ?_)
  · replace hF := (if_pos hc).symm.trans hF
    refine z_aload_n (n := 29) dX6_takes_28 rfl 2 rfl rfl ?_
    obtain ⟨n_26, hk_27, hF⟩ := zka_some hF
    obtain ⟨hb_28, hF⟩ := zg_some hF
    refine z_getR (n := 32) dX6_takes_29 rfl zok1 fX6_89_1 rfl hk_27 (Or.inl (zbig hb_28)) rfl ?_
    refine z_ifnonnull (r := F a0 9) (n := 35) (t := 48) dX6_takes_32 rfl (by decide) (fun hc => ?_) (fun hc => ?_)
    · replace hF := (if_pos hc).symm.trans hF
      refine z_aload_n (n := 49) dX6_takes_48 rfl 2 rfl rfl ?_
      obtain ⟨o_29, hr_30, hF⟩ := zb1_some hF
      refine z_getRS (n := 52) dX6_takes_49 rfl zok1 fX6_99_1 rfl hk_27 (Or.inl (zbig hb_28)) hr_30 ?_
      refine z_astoreS (n := 54) (lv' := [(4, .ref o_29), (3, .int v3_14), (0, .ref o0), (1, .ref a0), (2, .int a1)]) dX6_takes_52 rfl (by decide) rfl ?_
      refine z_aload (n := 56) dX6_takes_54 rfl 0 rfl ?_
      obtain ⟨hk_31, hF⟩ := zg_some hF
      refine z_gets (n := 59) (v := .ref 10) dX6_takes_56 rfl zst_Value_BOWS q846 (fun j h => by cases h; exact ⟨by decide, zsome hk_31⟩) ?_
      refine z_aload_n (n := 60) dX6_takes_59 rfl 2 rfl rfl ?_
      obtain ⟨o_32, hr_33, hF⟩ := zb1_some hF
      refine z_getRS (n := 63) dX6_takes_60 rfl zok5 fX6_21_5 rfl hk_2 (Or.inl (zbig hb_3)) hr_33 ?_
      refine z_iload_n (n := 64) dX6_takes_63 rfl 4 rfl rfl ?_
      obtain ⟨n_34, hk_35, hF⟩ := zka_some hF
      obtain ⟨h_36, hF⟩ := zg_some hF
      refine z_ialdK (n := 65) a1.toNatClampNeg rfl dX6_takes_64 rfl hk_35 (zin_ok h_36) ?_
      obtain ⟨n_37, hk_38, hF⟩ := zka_some hF
      obtain ⟨I_40, c_39, hF⟩ := zb1_some hF
      refine z_cV (n := 68) (st := []) (C_X3_sees htr c_39) dX6_takes_65 rfl (lw_V q848 q849 q850 q126 q851) hcee_X3_sees rfl (by decide) hk_38 rfl rfl rfl (Nat.le_of_ble_eq_true rfl) (Nat.le_refl _) (Nat.le_refl _) ?_
      refine z_aload (n := 70) dX6_takes_68 rfl 0 rfl ?_
      obtain ⟨hk_41, hF⟩ := zg_some hF
      refine z_gets (n := 73) (v := .ref 11) dX6_takes_70 rfl zst_Value_SABLES q858 (fun j h => by cases h; exact ⟨by decide, zsome hk_41⟩) ?_
      refine z_iload_n (n := 74) dX6_takes_73 rfl 1 rfl rfl ?_
      obtain ⟨I_43, c_42, hF⟩ := zb1_some hF
      refine z_cV (n := 77) (st := []) (C_X3_sees htr c_42) dX6_takes_74 rfl (lw_V q848 q849 q850 q126 q851) hcee_X3_sees rfl (by decide) hk_38 rfl rfl rfl (Nat.le_of_ble_eq_true rfl) (Nat.le_refl _) (Nat.le_refl _) ?_
      refine z_aload (n := 79) dX6_takes_77 rfl 0 rfl ?_
      obtain ⟨hk_44, hF⟩ := zg_some hF
      refine z_gets (n := 82) (v := .ref 12) dX6_takes_79 rfl zst_Value_OWES q860 (fun j h => by cases h; exact ⟨by decide, zsome hk_44⟩) ?_
      refine z_aload_n (n := 83) dX6_takes_82 rfl 2 rfl rfl ?_
      obtain ⟨o_45, hr_46, hF⟩ := zb1_some hF
      refine z_getRS (n := 86) dX6_takes_83 rfl zok5 fX6_33_5 rfl hk_2 (Or.inl (zbig hb_3)) hr_46 ?_
      refine z_iload_n (n := 87) dX6_takes_86 rfl 4 rfl rfl ?_
      obtain ⟨n_47, hk_48, hF⟩ := zka_some hF
      obtain ⟨h_49, hF⟩ := zg_some hF
      refine z_ialdK (n := 88) a1.toNatClampNeg rfl dX6_takes_87 rfl hk_48 (zin_ok h_49) ?_
      obtain ⟨I_51, c_50, hF⟩ := zb1_some hF
      refine z_cV (n := 91) (st := []) (C_X3_sees htr c_50) dX6_takes_88 rfl (lw_V q848 q849 q850 q126 q851) hcee_X3_sees rfl (by decide) hk_38 rfl rfl rfl (Nat.le_of_ble_eq_true rfl) (Nat.le_refl _) (Nat.le_refl _) ?_
      refine z_aload (n := 93) dX6_takes_91 rfl 0 rfl ?_
      obtain ⟨hk_52, hF⟩ := zg_some hF
      refine z_gets (n := 96) (v := .ref 13) dX6_takes_93 rfl zst_Value_DUE q862 (fun j h => by cases h; exact ⟨by decide, zsome hk_52⟩) ?_
      refine z_aload_n (n := 97) dX6_takes_96 rfl 3 rfl rfl ?_
      refine z_getI (n := 100) dX6_takes_97 rfl zok1 fX6_124_1 rfl hk_27 (Or.inl (zbig hb_28)) ?_
      refine z_aload_n (n := 101) dX6_takes_100 rfl 2 rfl rfl ?_
      obtain ⟨o_53, hr_54, hF⟩ := zb1_some hF
      refine z_getRS (n := 104) dX6_takes_101 rfl zok5 fX6_27_5 rfl hk_2 (Or.inl (zbig hb_3)) hr_54 ?_
      refine z_iload_n (n := 105) dX6_takes_104 rfl 4 rfl rfl ?_
      obtain ⟨n_55, hk_56, hF⟩ := zka_some hF
      obtain ⟨h_57, hF⟩ := zg_some hF
      refine z_ialdK (n := 106) a1.toNatClampNeg rfl dX6_takes_105 rfl hk_56 (zin_ok h_57) ?_
      refine z_imul (n := 107) dX6_takes_106 rfl ?_
      obtain ⟨I_59, c_58, hF⟩ := zb1_some hF
      refine z_cV (n := 110) (st := []) (C_X3_sees htr c_58) dX6_takes_107 rfl (lw_V q848 q849 q850 q126 q851) hcee_X3_sees rfl (by decide) hk_38 rfl rfl rfl (Nat.le_of_ble_eq_true rfl) (Nat.le_refl _) (Nat.le_refl _) ?_
      refine z_aload (n := 112) dX6_takes_110 rfl 0 rfl ?_
      obtain ⟨hk_60, hF⟩ := zg_some hF
      refine z_gets (n := 115) (v := .ref 14) dX6_takes_112 rfl zst_Value_YEAR q864 (fun j h => by cases h; exact ⟨by decide, zsome hk_60⟩) ?_
      refine z_aload_n (n := 116) dX6_takes_115 rfl 2 rfl rfl ?_
      refine z_getI (n := 119) dX6_takes_116 rfl zok5 fX6_39_5 rfl hk_2 (Or.inl (zbig hb_3)) ?_
      obtain ⟨I_62, c_61, hF⟩ := zb1_some hF
      refine z_cV (n := 122) (st := []) (C_X3_sees htr c_61) dX6_takes_119 rfl (lw_V q848 q849 q850 q126 q851) hcee_X3_sees rfl (by decide) hk_38 rfl rfl rfl (Nat.le_of_ble_eq_true rfl) (Nat.le_refl _) (Nat.le_refl _) ?_
      refine z_aload (n := 124) dX6_takes_122 rfl 0 rfl ?_
      obtain ⟨hk_63, hF⟩ := zg_some hF
      refine z_gets (n := 127) (v := .ref 15) dX6_takes_124 rfl zst_Value_STORE q866 (fun j h => by cases h; exact ⟨by decide, zsome hk_63⟩) ?_
      refine z_aload_n (n := 128) dX6_takes_127 rfl 2 rfl rfl ?_
      obtain ⟨o_64, hr_65, hF⟩ := zb1_some hF
      refine z_getRS (n := 131) dX6_takes_128 rfl zok5 fX6_30_5 rfl hk_2 (Or.inl (zbig hb_3)) hr_65 ?_
      refine z_iload_n (n := 132) dX6_takes_131 rfl 4 rfl rfl ?_
      obtain ⟨n_66, hk_67, hF⟩ := zka_some hF
      obtain ⟨h_68, hF⟩ := zg_some hF
      refine z_ialdK (n := 133) a1.toNatClampNeg rfl dX6_takes_132 rfl hk_67 (zin_ok h_68) ?_
      obtain ⟨I_70, c_69, hF⟩ := zb1_some hF
      refine z_cV (n := 136) (st := []) (C_X3_sees htr c_69) dX6_takes_133 rfl (lw_V q848 q849 q850 q126 q851) hcee_X3_sees rfl (by decide) hk_38 rfl rfl rfl (Nat.le_of_ble_eq_true rfl) (Nat.le_refl _) (Nat.le_refl _) ?_
      refine z_aload (n := 138) dX6_takes_136 rfl 0 rfl ?_
      obtain ⟨hk_71, hF⟩ := zg_some hF
      refine z_gets (n := 141) (v := .ref 16) dX6_takes_138 rfl zst_Value_OTHERS q868 (fun j h => by cases h; exact ⟨by decide, zsome hk_71⟩) ?_
      refine z_aload_n (n := 142) dX6_takes_141 rfl 2 rfl rfl ?_
      refine z_aload_n (n := 143) dX6_takes_142 rfl 3 rfl rfl ?_
      refine z_iload_n (n := 144) dX6_takes_143 rfl 4 rfl rfl ?_
      obtain ⟨x_73, c_72, hF⟩ := zb1_some hF
      refine z_cV (n := 147) (st := [.ref 16, .ref o_29]) (C_X6_others htr c_72) dX6_takes_144 rfl (lw_V q870 q872 qs9 q130 q873) hcee_X6_others rfl (by decide) hk_2 rfl rfl rfl (Nat.le_of_ble_eq_true rfl) (Nat.le_refl _) (Nat.le_refl _) ?_
      obtain ⟨I_75, c_74, hF⟩ := zb1_some hF
      refine z_cV (n := 150) (st := []) (C_X3_sees htr c_74) dX6_takes_147 rfl (lw_V q848 q849 q850 q126 q851) hcee_X3_sees rfl (by decide) hk_38 rfl rfl rfl (Nat.le_of_ble_eq_true rfl) (Nat.le_refl _) (Nat.le_refl _) ?_
      refine z_iconst (n := 151) (v := 0) dX6_takes_150 rfl (by decide) ?_
      refine z_iload_n (n := 152) dX6_takes_151 rfl 1 rfl rfl ?_
      refine z_aload_n (n := 153) dX6_takes_152 rfl 3 rfl rfl ?_
      refine z_getR (n := 156) dX6_takes_153 rfl zok1 fX6_89_1 rfl hk_27 (Or.inl (zbig hb_28)) rfl ?_
      refine z_aload (n := 158) dX6_takes_156 rfl 0 rfl ?_
      obtain ⟨o_76, hr_77, hF⟩ := zb1_some hF
      rw [hr_77]
      obtain ⟨x_78, c_79, hF⟩ := zb1_some hF
      refine z_by (n := 161) (st := [.int v3_14, .int 0]) (C_by htr 1000 _ _ _ _ c_79) dX6_takes_158 rfl q874 (by decide) (by decide) (Nat.le_of_ble_eq_true rfl) ?_
      refine z_min (n := 164) dX6_takes_161 rfl q845 q290 q119 q291 (by decide) (Nat.le_of_ble_eq_true rfl) ?_
      refine z_max (n := 167) dX6_takes_164 rfl q892 q272 q119 q273 (by decide) (Nat.le_of_ble_eq_true rfl) ?_
      have hF := Option.some.inj hF; subst hF
      exact z_iret dX6_takes_167 rfl rfl ⟨rfl, rfl, rfl, rfl, rfl⟩
    · replace hF := (if_neg (not_not_intro hc)).symm.trans hF
      refine z_iload_n (n := 36) dX6_takes_35 rfl 0 rfl rfl ?_
      refine z_iconst (n := 37) (v := 3) dX6_takes_36 rfl (by decide) ?_
      refine z_aload_n (n := 38) dX6_takes_37 rfl 1 rfl rfl ?_
      obtain ⟨o_80, hr_81, hF⟩ := zb1_some hF
      refine z_getRS (n := 41) dX6_takes_38 rfl zok5 fX6_21_5 rfl hk_2 (Or.inl (zbig hb_3)) hr_81 ?_
      refine z_iload_n (n := 42) dX6_takes_41 rfl 3 rfl rfl ?_
      obtain ⟨n_82, hk_83, hF⟩ := zka_some hF
      obtain ⟨h_84, hF⟩ := zg_some hF
      refine z_ialdK (n := 43) a1.toNatClampNeg rfl dX6_takes_42 rfl hk_83 (zin_ok h_84) ?_
      refine z_imul (n := 44) dX6_takes_43 rfl ?_
      refine z_min (n := 47) dX6_takes_44 rfl q845 q290 q119 q291 (by decide) (Nat.le_of_ble_eq_true rfl) ?_
      have hF := Option.some.inj hF; subst hF
      exact z_iret dX6_takes_47 rfl rfl ⟨rfl, rfl, rfl, rfl, rfl⟩
  · replace hF := (if_neg hc).symm.trans hF
    refine z_iconst (n := 27) (v := 0) dX6_takes_26 rfl (by decide) ?_
    have hF := Option.some.inj hF; subst hF
    exact z_iret dX6_takes_27 rfl rfl ⟨rfl, rfl, rfl, rfl, rfl⟩
theorem fX6_15_5 : zFld RX6 15 5 1 := ⟨_, rfl, by decide, _, Or.inl q591, Or.inl rfl⟩
theorem fX6_152_5 : zFld RX6 152 5 12 := ⟨_, rfl, by decide, _, Or.inl q613, Or.inl rfl⟩
theorem hcee_X6_takes : zCee yX6_takes RX6 2 := ⟨rfl, by decide +kernel, by decide +kernel, by decide +kernel⟩
abbrev MX6_hunts : zM := (RX6, cX6_hunts, 6, none, "hunts", [])
noncomputable def F_X6_hunts (K : zKd) (F : zFd) (o0 : Nat) (a0 : Nat) (a1 : Int32) (I : zId) : Option (zId) := zka K o0 5 (fun n_1 => zg (decide (600 ≤ o0)) (zb1 (F o0 4) (fun o_4 => zka K o_4 64 (fun n_6 => zg (zin a1 n_6) (zlet (I o_4 a1.toNatClampNeg) (fun v3_9 => zb2 (F_X6_takes K F o0 a0 a1 I) (fun x_12 I_13 => if ¬ x_12 = 0 then zb1 (F o0 1) (fun o_14 => zka K o_14 64 (fun n_16 => zg (zin v3_9 n_16) (zb1 (F o0 0) (fun o_19 => zka K o_19 64 (fun n_21 => zg (zin v3_9 n_21) (zg (!(decide (I_13 o_19 v3_9.toNatClampNeg = 0))) (zlet (((I_13 o_14 v3_9.toNatClampNeg) * x_12) / (I_13 o_19 v3_9.toNatClampNeg)) (fun v5_25 => zlet (fun (I_27 : zId) => zb1 (F o0 0) (fun o_31 => zka K o_31 64 (fun n_33 => zg (zin v3_9 n_33) (zg (zin v3_9 n_33) (zg (decide (600 ≤ o_31)) (zlet (zu I_27 o_31 v3_9.toNatClampNeg ((I_27 o_31 v3_9.toNatClampNeg) - x_12)) (fun I_38 => zb1 (F o0 1) (fun o_40 => zka K o_40 64 (fun n_42 => zg (zin v3_9 n_42) (zg (zin v3_9 n_42) (zg (decide (600 ≤ o_40)) (zlet (zu I_38 o_40 v3_9.toNatClampNeg ((I_38 o_40 v3_9.toNatClampNeg) - v5_25)) (fun I_47 => zb1 (F o0 6) (fun o_49 => zb1 (F o0 6) (fun o_51 => zka K o_51 64 (fun n_53 => zg (zin a1 n_53) (zka K o_49 64 (fun n_56 => zg (zin a1 n_56) (zg (decide (600 ≤ o_49)) (zlet (zu I_47 o_49 a1.toNatClampNeg (zmin (9999 : Int32) ((I_47 o_51 a1.toNatClampNeg) + x_12))) (fun I_60 => some I_60))))))))))))))))))))) (fun k_28 => if v5_25 ≤ 0 then k_28 I_13 else zlet (zu I_13 o0 12 v3_9) (fun I_62 => k_28 I_62)))))))))) else some I_13)))))))
set_option maxHeartbeats 1000000 in
theorem C_X6_hunts {l : Launch} {G : zGt} (htr : l.stackTraces = false) {K : zKd} {F : zFd} {L : zLd} {o0 : Nat} {a0 : Nat} {a1 : Int32} {I : zId} {r : zId} (hF : F_X6_hunts K F o0 a0 a1 I = some r) : zMet l G yX6_hunts (ws_ yX6_hunts cX6_hunts 6 none) 1003 24024 0 0 [.ref o0, .ref a0, .int a1] K F I L (zQe (.inl none) K F r L) := by
  refine zMet.of (by decide +kernel) htr (Nat.le_of_ble_eq_true rfl) ?_
  change zW l G MX6_hunts 1003 24024 0 0 0 [(0, .ref o0), (1, .ref a0), (2, .int a1)] [] K F I L (zQe (.inl none) K F r L)
  unfold F_X6_hunts at hF
  refine z_aload_n (n := 1) dX6_hunts_0 rfl 0 rfl rfl ?_
  obtain ⟨n_1, hk_2, hF⟩ := zka_some hF
  obtain ⟨hb_3, hF⟩ := zg_some hF
  obtain ⟨o_4, hr_5, hF⟩ := zb1_some hF
  refine z_getRS (n := 4) dX6_hunts_1 rfl zok5 fX6_24_5 rfl hk_2 (Or.inl (zbig hb_3)) hr_5 ?_
  refine z_iload_n (n := 5) dX6_hunts_4 rfl 2 rfl rfl ?_
  obtain ⟨n_6, hk_7, hF⟩ := zka_some hF
  obtain ⟨h_8, hF⟩ := zg_some hF
  refine z_ialdK (n := 6) a1.toNatClampNeg rfl dX6_hunts_5 rfl hk_7 (zin_ok h_8) ?_
  obtain ⟨v3_9, e_10, hF⟩ := zlet_ob hF
  refine z_istore_nE (n := 7) (lv' := [(3, .int v3_9), (0, .ref o0), (1, .ref a0), (2, .int a1)]) dX6_hunts_6 rfl e_10 rfl (by decide) rfl ?_
  refine z_aload_n (n := 8) dX6_hunts_7 rfl 1 rfl rfl ?_
  refine z_aload_n (n := 9) dX6_hunts_8 rfl 2 rfl rfl ?_
  refine z_iload_n (n := 10) dX6_hunts_9 rfl 3 rfl rfl ?_
  obtain ⟨x_12, I_13, c_11, hF⟩ := zb2_some hF
  refine z_cV (n := 13) (st := []) (C_X6_takes htr c_11) dX6_hunts_10 rfl (lw_V q841 q842 q843 q130 q844) hcee_X6_takes rfl (by decide) hk_2 rfl rfl rfl (Nat.le_of_ble_eq_true rfl) (Nat.le_refl _) (Nat.le_refl _) ?_
  refine z_istoreE (n := 15) (lv' := [(4, .int x_12), (3, .int v3_9), (0, .ref o0), (1, .ref a0), (2, .int a1)]) dX6_hunts_13 rfl rfl (by decide) rfl ?_
  refine z_iload (n := 17) dX6_hunts_15 rfl 0 rfl ?_
  refine z_if_ne (n := 20) (t := 21) dX6_hunts_17 rfl (by decide) (fun hc => ?_) (fun hc => ?_)
  · replace hF := (if_pos hc).symm.trans hF
    refine z_aload_n (n := 22) dX6_hunts_21 rfl 2 rfl rfl ?_
    obtain ⟨o_14, hr_15, hF⟩ := zb1_some hF
    refine z_getRS (n := 25) dX6_hunts_22 rfl zok5 fX6_15_5 rfl hk_2 (Or.inl (zbig hb_3)) hr_15 ?_
    refine z_iload_n (n := 26) dX6_hunts_25 rfl 1 rfl rfl ?_
    obtain ⟨n_16, hk_17, hF⟩ := zka_some hF
    obtain ⟨h_18, hF⟩ := zg_some hF
    refine z_ialdK (n := 27) v3_9.toNatClampNeg rfl dX6_hunts_26 rfl hk_17 (zin_ok h_18) ?_
    refine z_iload (n := 29) dX6_hunts_27 rfl 0 rfl ?_
    refine z_imul (n := 30) dX6_hunts_29 rfl ?_
    refine z_aload_n (n := 31) dX6_hunts_30 rfl 2 rfl rfl ?_
    obtain ⟨o_19, hr_20, hF⟩ := zb1_some hF
    refine z_getRS (n := 34) dX6_hunts_31 rfl zok5 fX6_9_5 rfl hk_2 (Or.inl (zbig hb_3)) hr_20 ?_
    refine z_iload_n (n := 35) dX6_hunts_34 rfl 1 rfl rfl ?_
    obtain ⟨n_21, hk_22, hF⟩ := zka_some hF
    obtain ⟨h_23, hF⟩ := zg_some hF
    refine z_ialdK (n := 36) v3_9.toNatClampNeg rfl dX6_hunts_35 rfl hk_22 (zin_ok h_23) ?_
    obtain ⟨h_24, hF⟩ := zg_some hF
    refine z_idiv (n := 37) dX6_hunts_36 rfl (zneg0 (a := 0) h_24) ?_
    obtain ⟨v5_25, e_26, hF⟩ := zlet_ob hF
    refine z_istoreE (n := 39) (lv' := [(5, .int v5_25), (4, .int x_12), (3, .int v3_9), (0, .ref o0), (1, .ref a0), (2, .int a1)]) dX6_hunts_37 rfl e_26 (by decide) rfl ?_
    refine z_iload (n := 41) dX6_hunts_39 rfl 0 rfl ?_
    obtain ⟨k_28, e_29, hF⟩ := zlet_ob hF
    have H_30 : ∀ (I_27 : zId), k_28 I_27 = some r → zW l G MX6_hunts 1003 24024 0 0 49 [(0, .ref o0), (2, .int a1), (3, .int v3_9), (4, .int x_12), (5, .int v5_25)] [] K F I_27 L (zQe (.inl none) K F r L) := by
      intro I_27 hF
      subst e_29
      dsimp only at hF
      refine z_aload_n (n := 50) dX6_hunts_49 rfl 0 rfl rfl ?_
      obtain ⟨o_31, hr_32, hF⟩ := zb1_some hF
      refine z_getRS (n := 53) dX6_hunts_50 rfl zok5 fX6_9_5 rfl hk_2 (Or.inl (zbig hb_3)) hr_32 ?_
      refine z_iload_n (n := 54) dX6_hunts_53 rfl 2 rfl rfl ?_
      refine z_dup2 (n := 55) dX6_hunts_54 rfl rfl rfl ?_
      obtain ⟨n_33, hk_34, hF⟩ := zka_some hF
      obtain ⟨h_35, hF⟩ := zg_some hF
      refine z_ialdK (n := 56) v3_9.toNatClampNeg rfl dX6_hunts_55 rfl hk_34 (zin_ok h_35) ?_
      refine z_iload (n := 58) dX6_hunts_56 rfl 3 rfl ?_
      refine z_isub (n := 59) dX6_hunts_58 rfl ?_
      obtain ⟨h_36, hF⟩ := zg_some hF
      obtain ⟨hb_37, hF⟩ := zg_some hF
      obtain ⟨I_38, e_39, hF⟩ := zlet_ob hF
      refine z_iastK (n := 60) v3_9.toNatClampNeg rfl dX6_hunts_59 rfl hk_34 (zbig hb_37) (zin_ok h_36) e_39 ?_
      refine z_aload_n (n := 61) dX6_hunts_60 rfl 0 rfl rfl ?_
      obtain ⟨o_40, hr_41, hF⟩ := zb1_some hF
      refine z_getRS (n := 64) dX6_hunts_61 rfl zok5 fX6_15_5 rfl hk_2 (Or.inl (zbig hb_3)) hr_41 ?_
      refine z_iload_n (n := 65) dX6_hunts_64 rfl 2 rfl rfl ?_
      refine z_dup2 (n := 66) dX6_hunts_65 rfl rfl rfl ?_
      obtain ⟨n_42, hk_43, hF⟩ := zka_some hF
      obtain ⟨h_44, hF⟩ := zg_some hF
      refine z_ialdK (n := 67) v3_9.toNatClampNeg rfl dX6_hunts_66 rfl hk_43 (zin_ok h_44) ?_
      refine z_iload (n := 69) dX6_hunts_67 rfl 4 rfl ?_
      refine z_isub (n := 70) dX6_hunts_69 rfl ?_
      obtain ⟨h_45, hF⟩ := zg_some hF
      obtain ⟨hb_46, hF⟩ := zg_some hF
      obtain ⟨I_47, e_48, hF⟩ := zlet_ob hF
      refine z_iastK (n := 71) v3_9.toNatClampNeg rfl dX6_hunts_70 rfl hk_43 (zbig hb_46) (zin_ok h_45) e_48 ?_
      refine z_aload_n (n := 72) dX6_hunts_71 rfl 0 rfl rfl ?_
      obtain ⟨o_49, hr_50, hF⟩ := zb1_some hF
      refine z_getRS (n := 75) dX6_hunts_72 rfl zok5 fX6_30_5 rfl hk_2 (Or.inl (zbig hb_3)) hr_50 ?_
      refine z_iload_n (n := 76) dX6_hunts_75 rfl 1 rfl rfl ?_
      refine z_sipush (n := 79) (v := 9999) dX6_hunts_76 rfl (by decide) ?_
      refine z_aload_n (n := 80) dX6_hunts_79 rfl 0 rfl rfl ?_
      obtain ⟨o_51, hr_52, hF⟩ := zb1_some hF
      refine z_getRS (n := 83) dX6_hunts_80 rfl zok5 fX6_30_5 rfl hk_2 (Or.inl (zbig hb_3)) hr_52 ?_
      refine z_iload_n (n := 84) dX6_hunts_83 rfl 1 rfl rfl ?_
      obtain ⟨n_53, hk_54, hF⟩ := zka_some hF
      obtain ⟨h_55, hF⟩ := zg_some hF
      refine z_ialdK (n := 85) a1.toNatClampNeg rfl dX6_hunts_84 rfl hk_54 (zin_ok h_55) ?_
      refine z_iload (n := 87) dX6_hunts_85 rfl 3 rfl ?_
      refine z_iadd (n := 88) dX6_hunts_87 rfl ?_
      refine z_min (n := 91) dX6_hunts_88 rfl q845 q290 q119 q291 (by decide) (Nat.le_of_ble_eq_true rfl) ?_
      obtain ⟨n_56, hk_57, hF⟩ := zka_some hF
      obtain ⟨h_58, hF⟩ := zg_some hF
      obtain ⟨hb_59, hF⟩ := zg_some hF
      obtain ⟨I_60, e_61, hF⟩ := zlet_ob hF
      refine z_iastK (n := 92) a1.toNatClampNeg rfl dX6_hunts_91 rfl hk_57 (zbig hb_59) (zin_ok h_58) e_61 ?_
      have hF := Option.some.inj hF; subst hF
      exact z_vret dX6_hunts_92 rfl ⟨rfl, rfl, rfl, rfl, rfl⟩
    clear e_29
    refine z_if_le (n := 44) (t := 49) dX6_hunts_41 rfl (by decide) (fun hc => ?_) (fun hc => ?_)
    · replace hF := (if_pos hc).symm.trans hF
      refine z_sub [3, 5, 2, 1, 0] rfl ?_
      exact H_30 I_13 hF
    · replace hF := (if_neg hc).symm.trans hF
      refine z_aload_n (n := 45) dX6_hunts_44 rfl 3 rfl rfl ?_
      refine z_iload_n (n := 46) dX6_hunts_45 rfl 2 rfl rfl ?_
      obtain ⟨I_62, e_63, hF⟩ := zlet_ob hF
      refine z_putIE (n := 49) dX6_hunts_46 rfl zok5 fX6_152_5 (Or.inl ⟨_, rfl, rfl⟩) rfl ⟨rfl, rfl⟩ hk_2 (zbig hb_3) e_63 ?_
      refine z_sub [3, 5, 2, 1, 0] rfl ?_
      exact H_30 I_62 hF
  · replace hF := (if_neg hc).symm.trans hF
    have hF := Option.some.inj hF; subst hF
    exact z_vret dX6_hunts_20 rfl ⟨rfl, rfl, rfl, rfl, rfl⟩
theorem fX6_36_5 : zFld RX6 36 5 8 := ⟨_, rfl, by decide, _, Or.inl q605, Or.inl rfl⟩
theorem fX6_43_5 : zFld RX6 43 5 10 := ⟨_, rfl, by decide, _, Or.inl q609, Or.inl rfl⟩
theorem fX6_46_5 : zFld RX6 46 5 11 := ⟨_, rfl, by decide, _, Or.inl q611, Or.inl rfl⟩
theorem fX6_155_1 : zFld RX6 155 1 2 := ⟨_, rfl, by decide, _, Or.inr ⟨_, q531⟩, Or.inl rfl⟩
theorem fX6_158_1 : zFld RX6 158 1 1 := ⟨_, rfl, by decide, _, Or.inr ⟨_, q527⟩, Or.inl rfl⟩
abbrev MX6_pays : zM := (RX6, cX6_pays, 6, none, "pays", [])
noncomputable def F_X6_pays (K : zKd) (F : zFd) (o0 : Nat) (a0 : Nat) (a1 : Int32) (I : zId) : Option (zId) := zka K a0 1 (fun n_1 => zg (decide (600 ≤ a0)) (zka K o0 5 (fun n_4 => zg (decide (600 ≤ o0)) (zb1 (F o0 5) (fun o_7 => zka K o_7 64 (fun n_9 => zg (zin a1 n_9) (zb1 (F o0 7) (fun o_12 => zka K o_12 64 (fun n_14 => zg (zin a1 n_14) (zlet (((I a0 0) * (I o_7 a1.toNatClampNeg)) + (I o_12 a1.toNatClampNeg)) (fun v3_17 => zb1 (F o0 6) (fun o_19 => zka K o_19 64 (fun n_21 => zg (zin a1 n_21) (zlet (zmin (I o_19 a1.toNatClampNeg) v3_17) (fun v4_24 => zb1 (F o0 6) (fun o_26 => zka K o_26 64 (fun n_28 => zg (zin a1 n_28) (zg (zin a1 n_28) (zg (decide (600 ≤ o_26)) (zlet (zu I o_26 a1.toNatClampNeg ((I o_26 a1.toNatClampNeg) - v4_24)) (fun I_33 => zlet (zu I_33 o0 10 ((I_33 o0 10) + v4_24)) (fun I_35 => zb1 (F o0 7) (fun o_37 => zka K o_37 64 (fun n_39 => zg (zin a1 n_39) (zg (decide (600 ≤ o_37)) (zlet (zu I_35 o_37 a1.toNatClampNeg (zmin (9999 : Int32) (v3_17 - v4_24))) (fun I_43 => zb1 (F o0 7) (fun o_45 => zka K o_45 64 (fun n_47 => zg (zin a1 n_47) (if (I_43 a0 2) < (I_43 o_45 a1.toNatClampNeg) then zb1 (F o0 7) (fun o_50 => zka K o_50 64 (fun n_52 => zg (zin a1 n_52) (zlet (((I_43 o_50 a1.toNatClampNeg) - (I_43 a0 2)) / 2) (fun v5_55 => zlet (zu I_43 o0 11 ((I_43 o0 11) + (v5_55 * (I_43 a0 1)))) (fun I_57 => zb1 (F o0 7) (fun o_59 => zka K o_59 64 (fun n_61 => zg (zin a1 n_61) (zg (zin a1 n_61) (zg (decide (600 ≤ o_59)) (zlet (zu I_57 o_59 a1.toNatClampNeg ((I_57 o_59 a1.toNatClampNeg) - v5_55)) (fun I_66 => zb1 (F o0 8) (fun o_68 => zka K o_68 64 (fun n_70 => zg (zin a1 n_70) (zg (zin a1 n_70) (zg (decide (600 ≤ o_68)) (zlet (zu I_66 o_68 a1.toNatClampNeg ((I_66 o_68 a1.toNatClampNeg) + 1)) (fun I_75 => some I_75))))))))))))))))) else some I_43))))))))))))))))))))))))))))))
set_option maxHeartbeats 1000000 in
theorem C_X6_pays {l : Launch} {G : zGt} (htr : l.stackTraces = false) {K : zKd} {F : zFd} {L : zLd} {o0 : Nat} {a0 : Nat} {a1 : Int32} {I : zId} {r : zId} (hF : F_X6_pays K F o0 a0 a1 I = some r) : zMet l G yX6_pays (ws_ yX6_pays cX6_pays 6 none) 1 24 0 0 [.ref o0, .ref a0, .int a1] K F I L (zQe (.inl none) K F r L) := by
  refine zMet.of (by decide +kernel) htr (Nat.le_of_ble_eq_true rfl) ?_
  change zW l G MX6_pays 1 24 0 0 0 [(0, .ref o0), (1, .ref a0), (2, .int a1)] [] K F I L (zQe (.inl none) K F r L)
  unfold F_X6_pays at hF
  refine z_aload_n (n := 1) dX6_pays_0 rfl 1 rfl rfl ?_
  obtain ⟨n_1, hk_2, hF⟩ := zka_some hF
  obtain ⟨hb_3, hF⟩ := zg_some hF
  refine z_getI (n := 4) dX6_pays_1 rfl zok1 fX6_124_1 rfl hk_2 (Or.inl (zbig hb_3)) ?_
  refine z_aload_n (n := 5) dX6_pays_4 rfl 0 rfl rfl ?_
  obtain ⟨n_4, hk_5, hF⟩ := zka_some hF
  obtain ⟨hb_6, hF⟩ := zg_some hF
  obtain ⟨o_7, hr_8, hF⟩ := zb1_some hF
  refine z_getRS (n := 8) dX6_pays_5 rfl zok5 fX6_27_5 rfl hk_5 (Or.inl (zbig hb_6)) hr_8 ?_
  refine z_iload_n (n := 9) dX6_pays_8 rfl 2 rfl rfl ?_
  obtain ⟨n_9, hk_10, hF⟩ := zka_some hF
  obtain ⟨h_11, hF⟩ := zg_some hF
  refine z_ialdK (n := 10) a1.toNatClampNeg rfl dX6_pays_9 rfl hk_10 (zin_ok h_11) ?_
  refine z_imul (n := 11) dX6_pays_10 rfl ?_
  refine z_aload_n (n := 12) dX6_pays_11 rfl 0 rfl rfl ?_
  obtain ⟨o_12, hr_13, hF⟩ := zb1_some hF
  refine z_getRS (n := 15) dX6_pays_12 rfl zok5 fX6_33_5 rfl hk_5 (Or.inl (zbig hb_6)) hr_13 ?_
  refine z_iload_n (n := 16) dX6_pays_15 rfl 2 rfl rfl ?_
  obtain ⟨n_14, hk_15, hF⟩ := zka_some hF
  obtain ⟨h_16, hF⟩ := zg_some hF
  refine z_ialdK (n := 17) a1.toNatClampNeg rfl dX6_pays_16 rfl hk_15 (zin_ok h_16) ?_
  refine z_iadd (n := 18) dX6_pays_17 rfl ?_
  obtain ⟨v3_17, e_18, hF⟩ := zlet_ob hF
  refine z_istore_nE (n := 19) (lv' := [(3, .int v3_17), (0, .ref o0), (1, .ref a0), (2, .int a1)]) dX6_pays_18 rfl e_18 rfl (by decide) rfl ?_
  refine z_aload_n (n := 20) dX6_pays_19 rfl 1 rfl rfl ?_
  obtain ⟨o_19, hr_20, hF⟩ := zb1_some hF
  refine z_getRS (n := 23) dX6_pays_20 rfl zok5 fX6_30_5 rfl hk_5 (Or.inl (zbig hb_6)) hr_20 ?_
  refine z_iload_n (n := 24) dX6_pays_23 rfl 3 rfl rfl ?_
  obtain ⟨n_21, hk_22, hF⟩ := zka_some hF
  obtain ⟨h_23, hF⟩ := zg_some hF
  refine z_ialdK (n := 25) a1.toNatClampNeg rfl dX6_pays_24 rfl hk_22 (zin_ok h_23) ?_
  refine z_iload_n (n := 26) dX6_pays_25 rfl 0 rfl rfl ?_
  refine z_min (n := 29) dX6_pays_26 rfl q845 q290 q119 q291 (by decide) (Nat.le_of_ble_eq_true rfl) ?_
  obtain ⟨v4_24, e_25, hF⟩ := zlet_ob hF
  refine z_istoreE (n := 31) (lv' := [(4, .int v4_24), (3, .int v3_17), (0, .ref o0), (1, .ref a0), (2, .int a1)]) dX6_pays_29 rfl e_25 (by decide) rfl ?_
  refine z_aload_n (n := 32) dX6_pays_31 rfl 2 rfl rfl ?_
  obtain ⟨o_26, hr_27, hF⟩ := zb1_some hF
  refine z_getRS (n := 35) dX6_pays_32 rfl zok5 fX6_30_5 rfl hk_5 (Or.inl (zbig hb_6)) hr_27 ?_
  refine z_iload_n (n := 36) dX6_pays_35 rfl 4 rfl rfl ?_
  refine z_dup2 (n := 37) dX6_pays_36 rfl rfl rfl ?_
  obtain ⟨n_28, hk_29, hF⟩ := zka_some hF
  obtain ⟨h_30, hF⟩ := zg_some hF
  refine z_ialdK (n := 38) a1.toNatClampNeg rfl dX6_pays_37 rfl hk_29 (zin_ok h_30) ?_
  refine z_iload (n := 40) dX6_pays_38 rfl 0 rfl ?_
  refine z_isub (n := 41) dX6_pays_40 rfl ?_
  obtain ⟨h_31, hF⟩ := zg_some hF
  obtain ⟨hb_32, hF⟩ := zg_some hF
  obtain ⟨I_33, e_34, hF⟩ := zlet_ob hF
  refine z_iastK (n := 42) a1.toNatClampNeg rfl dX6_pays_41 rfl hk_29 (zbig hb_32) (zin_ok h_31) e_34 ?_
  refine z_aload_n (n := 43) dX6_pays_42 rfl 2 rfl rfl ?_
  refine z_dup (n := 44) dX6_pays_43 rfl rfl ?_
  refine z_getI (n := 47) dX6_pays_44 rfl zok5 fX6_43_5 rfl hk_5 (Or.inl (zbig hb_6)) ?_
  refine z_iload (n := 49) dX6_pays_47 rfl 0 rfl ?_
  refine z_iadd (n := 50) dX6_pays_49 rfl ?_
  obtain ⟨I_35, e_36, hF⟩ := zlet_ob hF
  refine z_putIE (n := 53) dX6_pays_50 rfl zok5 fX6_43_5 (Or.inl ⟨_, rfl, rfl⟩) rfl ⟨rfl, rfl⟩ hk_5 (zbig hb_6) e_36 ?_
  refine z_aload_n (n := 54) dX6_pays_53 rfl 2 rfl rfl ?_
  obtain ⟨o_37, hr_38, hF⟩ := zb1_some hF
  refine z_getRS (n := 57) dX6_pays_54 rfl zok5 fX6_33_5 rfl hk_5 (Or.inl (zbig hb_6)) hr_38 ?_
  refine z_iload_n (n := 58) dX6_pays_57 rfl 4 rfl rfl ?_
  refine z_sipush (n := 61) (v := 9999) dX6_pays_58 rfl (by decide) ?_
  refine z_iload_n (n := 62) dX6_pays_61 rfl 1 rfl rfl ?_
  refine z_iload (n := 64) dX6_pays_62 rfl 0 rfl ?_
  refine z_isub (n := 65) dX6_pays_64 rfl ?_
  refine z_min (n := 68) dX6_pays_65 rfl q845 q290 q119 q291 (by decide) (Nat.le_of_ble_eq_true rfl) ?_
  obtain ⟨n_39, hk_40, hF⟩ := zka_some hF
  obtain ⟨h_41, hF⟩ := zg_some hF
  obtain ⟨hb_42, hF⟩ := zg_some hF
  obtain ⟨I_43, e_44, hF⟩ := zlet_ob hF
  refine z_iastK (n := 69) a1.toNatClampNeg rfl dX6_pays_68 rfl hk_40 (zbig hb_42) (zin_ok h_41) e_44 ?_
  refine z_aload_n (n := 70) dX6_pays_69 rfl 2 rfl rfl ?_
  obtain ⟨o_45, hr_46, hF⟩ := zb1_some hF
  refine z_getRS (n := 73) dX6_pays_70 rfl zok5 fX6_33_5 rfl hk_5 (Or.inl (zbig hb_6)) hr_46 ?_
  refine z_iload_n (n := 74) dX6_pays_73 rfl 4 rfl rfl ?_
  obtain ⟨n_47, hk_48, hF⟩ := zka_some hF
  obtain ⟨h_49, hF⟩ := zg_some hF
  refine z_ialdK (n := 75) a1.toNatClampNeg rfl dX6_pays_74 rfl hk_48 (zin_ok h_49) ?_
  refine z_aload_n (n := 76) dX6_pays_75 rfl 3 rfl rfl ?_
  refine z_getI (n := 79) dX6_pays_76 rfl zok1 fX6_155_1 rfl hk_2 (Or.inl (zbig hb_3)) ?_
  refine z_icmp_gt (n := 82) (t := 83) dX6_pays_79 rfl (by decide) (fun hc => ?_) (fun hc => ?_)
  · replace hF := (if_pos hc).symm.trans hF
    refine z_aload_n (n := 84) dX6_pays_83 rfl 2 rfl rfl ?_
    obtain ⟨o_50, hr_51, hF⟩ := zb1_some hF
    refine z_getRS (n := 87) dX6_pays_84 rfl zok5 fX6_33_5 rfl hk_5 (Or.inl (zbig hb_6)) hr_51 ?_
    refine z_iload_n (n := 88) dX6_pays_87 rfl 4 rfl rfl ?_
    obtain ⟨n_52, hk_53, hF⟩ := zka_some hF
    obtain ⟨h_54, hF⟩ := zg_some hF
    refine z_ialdK (n := 89) a1.toNatClampNeg rfl dX6_pays_88 rfl hk_53 (zin_ok h_54) ?_
    refine z_aload_n (n := 90) dX6_pays_89 rfl 3 rfl rfl ?_
    refine z_getI (n := 93) dX6_pays_90 rfl zok1 fX6_155_1 rfl hk_2 (Or.inl (zbig hb_3)) ?_
    refine z_isub (n := 94) dX6_pays_93 rfl ?_
    refine z_iconst (n := 95) (v := 2) dX6_pays_94 rfl (by decide) ?_
    refine z_idiv (n := 96) dX6_pays_95 rfl (by decide) ?_
    obtain ⟨v5_55, e_56, hF⟩ := zlet_ob hF
    refine z_istoreE (n := 98) (lv' := [(5, .int v5_55), (4, .int v4_24), (3, .int v3_17), (0, .ref o0), (1, .ref a0), (2, .int a1)]) dX6_pays_96 rfl e_56 (by decide) rfl ?_
    refine z_aload_n (n := 99) dX6_pays_98 rfl 3 rfl rfl ?_
    refine z_dup (n := 100) dX6_pays_99 rfl rfl ?_
    refine z_getI (n := 103) dX6_pays_100 rfl zok5 fX6_46_5 rfl hk_5 (Or.inl (zbig hb_6)) ?_
    refine z_iload (n := 105) dX6_pays_103 rfl 0 rfl ?_
    refine z_aload_n (n := 106) dX6_pays_105 rfl 4 rfl rfl ?_
    refine z_getI (n := 109) dX6_pays_106 rfl zok1 fX6_158_1 rfl hk_2 (Or.inl (zbig hb_3)) ?_
    refine z_imul (n := 110) dX6_pays_109 rfl ?_
    refine z_iadd (n := 111) dX6_pays_110 rfl ?_
    obtain ⟨I_57, e_58, hF⟩ := zlet_ob hF
    refine z_putIE (n := 114) dX6_pays_111 rfl zok5 fX6_46_5 (Or.inl ⟨_, rfl, rfl⟩) rfl ⟨rfl, rfl⟩ hk_5 (zbig hb_6) e_58 ?_
    refine z_aload_n (n := 115) dX6_pays_114 rfl 3 rfl rfl ?_
    obtain ⟨o_59, hr_60, hF⟩ := zb1_some hF
    refine z_getRS (n := 118) dX6_pays_115 rfl zok5 fX6_33_5 rfl hk_5 (Or.inl (zbig hb_6)) hr_60 ?_
    refine z_iload_n (n := 119) dX6_pays_118 rfl 5 rfl rfl ?_
    refine z_dup2 (n := 120) dX6_pays_119 rfl rfl rfl ?_
    obtain ⟨n_61, hk_62, hF⟩ := zka_some hF
    obtain ⟨h_63, hF⟩ := zg_some hF
    refine z_ialdK (n := 121) a1.toNatClampNeg rfl dX6_pays_120 rfl hk_62 (zin_ok h_63) ?_
    refine z_iload (n := 123) dX6_pays_121 rfl 0 rfl ?_
    refine z_isub (n := 124) dX6_pays_123 rfl ?_
    obtain ⟨h_64, hF⟩ := zg_some hF
    obtain ⟨hb_65, hF⟩ := zg_some hF
    obtain ⟨I_66, e_67, hF⟩ := zlet_ob hF
    refine z_iastK (n := 125) a1.toNatClampNeg rfl dX6_pays_124 rfl hk_62 (zbig hb_65) (zin_ok h_64) e_67 ?_
    refine z_aload_n (n := 126) dX6_pays_125 rfl 3 rfl rfl ?_
    obtain ⟨o_68, hr_69, hF⟩ := zb1_some hF
    refine z_getRS (n := 129) dX6_pays_126 rfl zok5 fX6_36_5 rfl hk_5 (Or.inl (zbig hb_6)) hr_69 ?_
    refine z_iload_n (n := 130) dX6_pays_129 rfl 5 rfl rfl ?_
    refine z_dup2 (n := 131) dX6_pays_130 rfl rfl rfl ?_
    obtain ⟨n_70, hk_71, hF⟩ := zka_some hF
    obtain ⟨h_72, hF⟩ := zg_some hF
    refine z_ialdK (n := 132) a1.toNatClampNeg rfl dX6_pays_131 rfl hk_71 (zin_ok h_72) ?_
    refine z_iconst (n := 133) (v := 1) dX6_pays_132 rfl (by decide) ?_
    refine z_iadd (n := 134) dX6_pays_133 rfl ?_
    obtain ⟨h_73, hF⟩ := zg_some hF
    obtain ⟨hb_74, hF⟩ := zg_some hF
    obtain ⟨I_75, e_76, hF⟩ := zlet_ob hF
    refine z_iastK (n := 135) a1.toNatClampNeg rfl dX6_pays_134 rfl hk_71 (zbig hb_74) (zin_ok h_73) e_76 ?_
    have hF := Option.some.inj hF; subst hF
    exact z_vret dX6_pays_135 rfl ⟨rfl, rfl, rfl, rfl, rfl⟩
  · replace hF := (if_neg hc).symm.trans hF
    have hF := Option.some.inj hF; subst hF
    exact z_vret dX6_pays_82 rfl ⟨rfl, rfl, rfl, rfl, rfl⟩
theorem fX6_49_1 : zFld RX6 49 1 4 := ⟨_, rfl, by decide, _, Or.inr ⟨_, q537⟩, Or.inl rfl⟩
theorem hcee_J2_get : zCee yJ2_get RJ2 1 := ⟨rfl, by decide +kernel, by decide +kernel, by decide +kernel⟩
theorem hcee_X10_grown : zCee yX10_grown RX10 1 := ⟨rfl, by decide +kernel, by decide +kernel, by decide +kernel⟩
theorem hcee_X10_grownBlack : zCee yX10_grownBlack RX10 2 := ⟨rfl, by decide +kernel, by decide +kernel, by decide +kernel⟩
abbrev MX6_grows : zM := (RX6, cX6_grows, 4, none, "grows", [])
noncomputable def F_X6_grows_L2 (K : zKd) (F : zFd) (o0 : Nat) (a0 : Nat) (v2_1 : Int32) (I_2 : zId) : Option ((Int32 × zId) ⊕ (zId)) := zka K a0 1 (fun n_3 => zg (decide (600 ≤ a0)) (zb1 (F a0 4) (fun o_6 => zka K o_6 2 (fun n_8 => zb1 (F_J2_size K F o_6 I_2) (fun x_11 => if x_11 ≤ v2_1 then some (.inr (I_2)) else zb1 (F a0 4) (fun o_12 => zka K o_12 2 (fun n_14 => zb1 (F_J2_get K F o_12 v2_1 I_2) (fun q_17 => zb1 q_17 (fun o_18 => zka K o_18 9 (fun n_20 => zka K o0 5 (fun n_22 => zg (decide (600 ≤ o0)) (zb1 (F o0 0) (fun o_25 => zb1 (F o0 0) (fun o_27 => zka K o_27 64 (fun n_29 => zg (zin v2_1 n_29) (zb1 (F_X10_grown K F o_18 (I_2 o_27 v2_1.toNatClampNeg) I_2) (fun x_33 => zka K o_25 64 (fun n_34 => zg (zin v2_1 n_34) (zg (decide (600 ≤ o_25)) (zlet (zu I_2 o_25 v2_1.toNatClampNeg x_33) (fun I_38 => zb1 (F o0 1) (fun o_40 => zb1 (F o0 1) (fun o_42 => zka K o_42 64 (fun n_44 => zg (zin v2_1 n_44) (zb1 (F o0 0) (fun o_47 => zka K o_47 64 (fun n_49 => zg (zin v2_1 n_49) (zb1 (F_X10_grownBlack K F o_18 (I_38 o_42 v2_1.toNatClampNeg) (I_38 o_47 v2_1.toNatClampNeg) I_38) (fun x_53 => zka K o_40 64 (fun n_54 => zg (zin v2_1 n_54) (zg (decide (600 ≤ o_40)) (zlet (zu I_38 o_40 v2_1.toNatClampNeg x_53) (fun I_58 => zb1 (F o0 2) (fun o_60 => zka K o_60 64 (fun n_62 => zg (zin v2_1 n_62) (if (I_58 o_60 v2_1.toNatClampNeg) ≤ 0 then zlet (v2_1 + 1) (fun v2_65 => some (.inl (v2_65, I_58))) else zb1 (F o0 2) (fun o_67 => zka K o_67 64 (fun n_69 => zg (zin v2_1 n_69) (zg (zin v2_1 n_69) (zg (decide (600 ≤ o_67)) (zlet (zu I_58 o_67 v2_1.toNatClampNeg ((I_58 o_67 v2_1.toNatClampNeg) - 1)) (fun I_74 => zlet (v2_1 + 1) (fun v2_76 => some (.inl (v2_76, I_74)))))))))))))))))))))))))))))))))))))))))))))
noncomputable def F_X6_grows (K : zKd) (F : zFd) (o0 : Nat) (a0 : Nat) (I : zId) : Option (zId) := zb1 (zloop (fun s : Int32 × zId => F_X6_grows_L2 K F o0 a0 s.1 s.2) (0, I)) (fun I_78 => some I_78)
set_option maxHeartbeats 1000000 in
theorem W_X6_grows_L2 {l : Launch} {G : zGt} (htr : l.stackTraces = false) {K : zKd} {F : zFd} {L : zLd} {Q : zQt} {o0 : Nat} {a0 : Nat} {v2_1 : Int32} {I_2 : zId} {r : (Int32 × zId) ⊕ (zId)} (hF : F_X6_grows_L2 K F o0 a0 v2_1 I_2 = some r) (kl : ∀ (z0 : Int32) (z1 : zId), r = .inl (z0, z1) → zW l G MX6_grows 3 64 0 0 2 [(0, .ref o0), (1, .ref a0), (2, .int z0)] [] K F z1 L Q) (kx : ∀ (y0 : zId), r = .inr y0 → zW l G MX6_grows 3 64 0 0 88 [] [] K F y0 L Q)  : zW l G MX6_grows 3 64 0 0 2 [(0, .ref o0), (1, .ref a0), (2, .int v2_1)] [] K F I_2 L Q := by
  unfold F_X6_grows_L2 at hF
  refine z_iload_n (n := 3) dX6_grows_2 rfl 2 rfl rfl ?_
  refine z_aload_n (n := 4) dX6_grows_3 rfl 1 rfl rfl ?_
  obtain ⟨n_3, hk_4, hF⟩ := zka_some hF
  obtain ⟨hb_5, hF⟩ := zg_some hF
  obtain ⟨o_6, hr_7, hF⟩ := zb1_some hF
  refine z_getRS (n := 7) dX6_grows_4 rfl zok1 fX6_49_1 rfl hk_4 (Or.inl (zbig hb_5)) hr_7 ?_
  obtain ⟨n_8, hk_9, hF⟩ := zka_some hF
  obtain ⟨x_11, c_10, hF⟩ := zb1_some hF
  refine z_cV (n := 10) (st := [.int v2_1]) (C_J2_size htr c_10) dX6_grows_7 rfl (lw_V q833 q834 q835 q109 q836) hcee_J2_size rfl (by decide) hk_9 rfl rfl rfl (Nat.le_of_ble_eq_true rfl) (Nat.le_refl _) (Nat.le_refl _) ?_
  refine z_icmp_ge (n := 13) (t := 88) dX6_grows_10 rfl (by decide) (fun hc => ?_) (fun hc => ?_)
  · replace hF := (if_pos hc).symm.trans hF
    refine z_sub [] rfl ?_
    have hF := Option.some.inj hF; subst hF
    exact kx I_2 rfl
  · replace hF := (if_neg hc).symm.trans hF
    refine z_aload_n (n := 14) dX6_grows_13 rfl 1 rfl rfl ?_
    obtain ⟨o_12, hr_13, hF⟩ := zb1_some hF
    refine z_getRS (n := 17) dX6_grows_14 rfl zok1 fX6_49_1 rfl hk_4 (Or.inl (zbig hb_5)) hr_13 ?_
    refine z_iload_n (n := 18) dX6_grows_17 rfl 2 rfl rfl ?_
    obtain ⟨n_14, hk_15, hF⟩ := zka_some hF
    obtain ⟨q_17, c_16, hF⟩ := zb1_some hF
    refine z_cV (n := 21) (st := []) (C_J2_get htr c_16) dX6_grows_18 rfl (lw_V q901 q813 q814 q109 q815) hcee_J2_get rfl (by decide) hk_15 rfl rfl rfl (Nat.le_of_ble_eq_true rfl) (Nat.le_refl _) (Nat.le_refl _) ?_
    obtain ⟨o_18, hr_19, hF⟩ := zb1_some hF
    rw [hr_19]
    obtain ⟨n_20, hk_21, hF⟩ := zka_some hF
    refine z_castS (n := 24) dX6_grows_21 rfl hk_21 rfl q902 rfl ?_
    refine z_astore_nS (n := 25) (lv' := [(3, .ref o_18), (0, .ref o0), (1, .ref a0), (2, .int v2_1)]) dX6_grows_24 rfl rfl (by decide) rfl ?_
    refine z_aload_n (n := 26) dX6_grows_25 rfl 1 rfl rfl ?_
    obtain ⟨n_22, hk_23, hF⟩ := zka_some hF
    obtain ⟨hb_24, hF⟩ := zg_some hF
    obtain ⟨o_25, hr_26, hF⟩ := zb1_some hF
    refine z_getRS (n := 29) dX6_grows_26 rfl zok5 fX6_9_5 rfl hk_23 (Or.inl (zbig hb_24)) hr_26 ?_
    refine z_iload_n (n := 30) dX6_grows_29 rfl 3 rfl rfl ?_
    refine z_aload_n (n := 31) dX6_grows_30 rfl 0 rfl rfl ?_
    refine z_aload_n (n := 32) dX6_grows_31 rfl 1 rfl rfl ?_
    obtain ⟨o_27, hr_28, hF⟩ := zb1_some hF
    refine z_getRS (n := 35) dX6_grows_32 rfl zok5 fX6_9_5 rfl hk_23 (Or.inl (zbig hb_24)) hr_28 ?_
    refine z_iload_n (n := 36) dX6_grows_35 rfl 3 rfl rfl ?_
    obtain ⟨n_29, hk_30, hF⟩ := zka_some hF
    obtain ⟨h_31, hF⟩ := zg_some hF
    refine z_ialdK (n := 37) v2_1.toNatClampNeg rfl dX6_grows_36 rfl hk_30 (zin_ok h_31) ?_
    obtain ⟨x_33, c_32, hF⟩ := zb1_some hF
    refine z_cV (n := 40) (st := [.int v2_1, .ref o_25]) (C_X10_grown htr c_32) dX6_grows_37 rfl (lw_V q903 q904 q905 q135 q906) hcee_X10_grown rfl (by decide) hk_21 rfl rfl rfl (Nat.le_of_ble_eq_true rfl) (Nat.le_refl _) (Nat.le_refl _) ?_
    obtain ⟨n_34, hk_35, hF⟩ := zka_some hF
    obtain ⟨h_36, hF⟩ := zg_some hF
    obtain ⟨hb_37, hF⟩ := zg_some hF
    obtain ⟨I_38, e_39, hF⟩ := zlet_ob hF
    refine z_iastK (n := 41) v2_1.toNatClampNeg rfl dX6_grows_40 rfl hk_35 (zbig hb_37) (zin_ok h_36) e_39 ?_
    refine z_aload_n (n := 42) dX6_grows_41 rfl 1 rfl rfl ?_
    obtain ⟨o_40, hr_41, hF⟩ := zb1_some hF
    refine z_getRS (n := 45) dX6_grows_42 rfl zok5 fX6_15_5 rfl hk_23 (Or.inl (zbig hb_24)) hr_41 ?_
    refine z_iload_n (n := 46) dX6_grows_45 rfl 3 rfl rfl ?_
    refine z_aload_n (n := 47) dX6_grows_46 rfl 0 rfl rfl ?_
    refine z_aload_n (n := 48) dX6_grows_47 rfl 1 rfl rfl ?_
    obtain ⟨o_42, hr_43, hF⟩ := zb1_some hF
    refine z_getRS (n := 51) dX6_grows_48 rfl zok5 fX6_15_5 rfl hk_23 (Or.inl (zbig hb_24)) hr_43 ?_
    refine z_iload_n (n := 52) dX6_grows_51 rfl 3 rfl rfl ?_
    obtain ⟨n_44, hk_45, hF⟩ := zka_some hF
    obtain ⟨h_46, hF⟩ := zg_some hF
    refine z_ialdK (n := 53) v2_1.toNatClampNeg rfl dX6_grows_52 rfl hk_45 (zin_ok h_46) ?_
    refine z_aload_n (n := 54) dX6_grows_53 rfl 1 rfl rfl ?_
    obtain ⟨o_47, hr_48, hF⟩ := zb1_some hF
    refine z_getRS (n := 57) dX6_grows_54 rfl zok5 fX6_9_5 rfl hk_23 (Or.inl (zbig hb_24)) hr_48 ?_
    refine z_iload_n (n := 58) dX6_grows_57 rfl 3 rfl rfl ?_
    obtain ⟨n_49, hk_50, hF⟩ := zka_some hF
    obtain ⟨h_51, hF⟩ := zg_some hF
    refine z_ialdK (n := 59) v2_1.toNatClampNeg rfl dX6_grows_58 rfl hk_50 (zin_ok h_51) ?_
    obtain ⟨x_53, c_52, hF⟩ := zb1_some hF
    refine z_cV (n := 62) (st := [.int v2_1, .ref o_40]) (C_X10_grownBlack htr c_52) dX6_grows_59 rfl (lw_V q909 q910 q911 q135 q912) hcee_X10_grownBlack rfl (by decide) hk_21 rfl rfl rfl (Nat.le_of_ble_eq_true rfl) (Nat.le_refl _) (Nat.le_refl _) ?_
    obtain ⟨n_54, hk_55, hF⟩ := zka_some hF
    obtain ⟨h_56, hF⟩ := zg_some hF
    obtain ⟨hb_57, hF⟩ := zg_some hF
    obtain ⟨I_58, e_59, hF⟩ := zlet_ob hF
    refine z_iastK (n := 63) v2_1.toNatClampNeg rfl dX6_grows_62 rfl hk_55 (zbig hb_57) (zin_ok h_56) e_59 ?_
    refine z_aload_n (n := 64) dX6_grows_63 rfl 1 rfl rfl ?_
    obtain ⟨o_60, hr_61, hF⟩ := zb1_some hF
    refine z_getRS (n := 67) dX6_grows_64 rfl zok5 fX6_18_5 rfl hk_23 (Or.inl (zbig hb_24)) hr_61 ?_
    refine z_iload_n (n := 68) dX6_grows_67 rfl 3 rfl rfl ?_
    obtain ⟨n_62, hk_63, hF⟩ := zka_some hF
    obtain ⟨h_64, hF⟩ := zg_some hF
    refine z_ialdK (n := 69) v2_1.toNatClampNeg rfl dX6_grows_68 rfl hk_63 (zin_ok h_64) ?_
    refine z_if_le (n := 72) (t := 82) dX6_grows_69 rfl (by decide) (fun hc => ?_) (fun hc => ?_)
    · replace hF := (if_pos hc).symm.trans hF
      obtain ⟨v2_65, e_66, hF⟩ := zlet_ob hF
      refine z_iincE (n := 85) (w := 1) (v := v2_65) (lv' := [(2, .int v2_65), (3, .ref o_18), (0, .ref o0), (1, .ref a0)]) dX6_grows_82 rfl 3 rfl (by decide) e_66 (by decide) rfl ?_
      refine z_goto (t := 2) dX6_grows_85 (by decide) ?_
      refine z_sub [2, 3, 0] rfl ?_
      have hF := Option.some.inj hF; subst hF
      exact kl v2_65 I_58 rfl
    · replace hF := (if_neg hc).symm.trans hF
      refine z_aload_n (n := 73) dX6_grows_72 rfl 1 rfl rfl ?_
      obtain ⟨o_67, hr_68, hF⟩ := zb1_some hF
      refine z_getRS (n := 76) dX6_grows_73 rfl zok5 fX6_18_5 rfl hk_23 (Or.inl (zbig hb_24)) hr_68 ?_
      refine z_iload_n (n := 77) dX6_grows_76 rfl 3 rfl rfl ?_
      refine z_dup2 (n := 78) dX6_grows_77 rfl rfl rfl ?_
      obtain ⟨n_69, hk_70, hF⟩ := zka_some hF
      obtain ⟨h_71, hF⟩ := zg_some hF
      refine z_ialdK (n := 79) v2_1.toNatClampNeg rfl dX6_grows_78 rfl hk_70 (zin_ok h_71) ?_
      refine z_iconst (n := 80) (v := 1) dX6_grows_79 rfl (by decide) ?_
      refine z_isub (n := 81) dX6_grows_80 rfl ?_
      obtain ⟨h_72, hF⟩ := zg_some hF
      obtain ⟨hb_73, hF⟩ := zg_some hF
      obtain ⟨I_74, e_75, hF⟩ := zlet_ob hF
      refine z_iastK (n := 82) v2_1.toNatClampNeg rfl dX6_grows_81 rfl hk_70 (zbig hb_73) (zin_ok h_72) e_75 ?_
      obtain ⟨v2_76, e_77, hF⟩ := zlet_ob hF
      refine z_iincE (n := 85) (w := 1) (v := v2_76) (lv' := [(2, .int v2_76), (3, .ref o_18), (0, .ref o0), (1, .ref a0)]) dX6_grows_82 rfl 3 rfl (by decide) e_77 (by decide) rfl ?_
      refine z_goto (t := 2) dX6_grows_85 (by decide) ?_
      refine z_sub [2, 3, 0] rfl ?_
      have hF := Option.some.inj hF; subst hF
      exact kl v2_76 I_74 rfl
set_option maxHeartbeats 1000000 in
theorem C_X6_grows {l : Launch} {G : zGt} (htr : l.stackTraces = false) {K : zKd} {F : zFd} {L : zLd} {o0 : Nat} {a0 : Nat} {I : zId} {r : zId} (hF : F_X6_grows K F o0 a0 I = some r) : zMet l G yX6_grows (ws_ yX6_grows cX6_grows 4 none) 3 64 0 0 [.ref o0, .ref a0] K F I L (zQe (.inl none) K F r L) := by
  refine zMet.of (by decide +kernel) htr (Nat.le_of_ble_eq_true rfl) ?_
  change zW l G MX6_grows 3 64 0 0 0 [(0, .ref o0), (1, .ref a0)] [] K F I L (zQe (.inl none) K F r L)
  unfold F_X6_grows at hF
  refine z_iconst (n := 1) (v := 0) dX6_grows_0 rfl (by decide) ?_
  refine z_istore_nE (n := 2) (lv' := [(2, .int 0), (0, .ref o0), (1, .ref a0)]) dX6_grows_1 rfl rfl rfl (by decide) rfl ?_
  refine z_sub [1, 2, 0] rfl ?_
  obtain ⟨t_80, e_79, hF⟩ := zb1_some hF
  obtain ⟨I_78, rfl⟩ : ∃ z, z = t_80 := ⟨_, rfl⟩
  have H_81 : zW l G MX6_grows 3 64 0 0 88 [] [] K F I_78 L (zQe (.inl none) K F r L) := by
    have hF := Option.some.inj hF; subst hF
    exact z_vret dX6_grows_88 rfl ⟨rfl, rfl, rfl, rfl, rfl⟩
  refine zloop_ind (P := fun s : Int32 × zId => zW l G MX6_grows 3 64 0 0 2 [(0, .ref o0), (1, .ref a0), (2, .int s.1)] [] K F s.2 L (zQe (.inl none) K F r L)) (fun s r hb kl kr => ?_) e_79
  exact W_X6_grows_L2 (o0 := o0) (a0 := a0) htr hb (fun z0 z1 e => kl _ e) (fun y0 e => by cases kr _ e; exact H_81)
theorem hcee_X6_grows : zCee yX6_grows RX6 1 := ⟨rfl, by decide +kernel, by decide +kernel, by decide +kernel⟩
theorem hcee_X6_hunts : zCee yX6_hunts RX6 2 := ⟨rfl, by decide +kernel, by decide +kernel, by decide +kernel⟩
theorem hcee_X6_pays : zCee yX6_pays RX6 2 := ⟨rfl, by decide +kernel, by decide +kernel, by decide +kernel⟩
abbrev MX6_goes : zM := (RX6, cX6_goes, 3, none, "goes", [])
noncomputable def F_X6_goes_L7 (K : zKd) (F : zFd) (o0 : Nat) (a0 : Nat) (v2_6 : Int32) (I_7 : zId) : Option ((Int32 × zId) ⊕ (zId)) := zka K a0 1 (fun n_8 => zg (decide (600 ≤ a0)) (zb1 (F a0 5) (fun o_11 => zka K o_11 2 (fun n_13 => zb1 (F_J2_size K F o_11 I_7) (fun x_16 => if x_16 ≤ v2_6 then some (.inr (I_7)) else zka K o0 5 (fun n_17 => zb1 (F_X6_hunts K F o0 a0 v2_6 I_7) (fun I_20 => zb1 (F_X6_pays K F o0 a0 v2_6 I_20) (fun I_22 => zlet (v2_6 + 1) (fun v2_23 => some (.inl (v2_23, I_22)))))))))))
noncomputable def F_X6_goes (K : zKd) (F : zFd) (o0 : Nat) (a0 : Nat) (I : zId) : Option (zId) := zka K o0 5 (fun n_1 => zg (decide (600 ≤ o0)) (zlet (zu I o0 12 (-1)) (fun I_4 => zb1 (zloop (fun s : Int32 × zId => F_X6_goes_L7 K F o0 a0 s.1 s.2) (0, I_4)) (fun I_25 => zb1 (F_X6_grows K F o0 a0 I_25) (fun I_27 => zlet (zu I_27 o0 9 ((I_27 o0 9) + 1)) (fun I_28 => some I_28))))))
set_option maxHeartbeats 1000000 in
theorem W_X6_goes_L7 {l : Launch} {G : zGt} (htr : l.stackTraces = false) {K : zKd} {F : zFd} {L : zLd} {Q : zQt} {o0 : Nat} {a0 : Nat} {v2_6 : Int32} {I_7 : zId} {r : (Int32 × zId) ⊕ (zId)} (hF : F_X6_goes_L7 K F o0 a0 v2_6 I_7 = some r) (kl : ∀ (z0 : Int32) (z1 : zId), r = .inl (z0, z1) → zW l G MX6_goes 1004 24049 0 0 7 [(0, .ref o0), (1, .ref a0), (2, .int z0)] [] K F z1 L Q) (kx : ∀ (y0 : zId), r = .inr y0 → zW l G MX6_goes 1004 24049 0 0 36 [(0, .ref o0), (1, .ref a0)] [] K F y0 L Q)  : zW l G MX6_goes 1004 24049 0 0 7 [(0, .ref o0), (1, .ref a0), (2, .int v2_6)] [] K F I_7 L Q := by
  unfold F_X6_goes_L7 at hF
  refine z_iload_n (n := 8) dX6_goes_7 rfl 2 rfl rfl ?_
  refine z_aload_n (n := 9) dX6_goes_8 rfl 1 rfl rfl ?_
  obtain ⟨n_8, hk_9, hF⟩ := zka_some hF
  obtain ⟨hb_10, hF⟩ := zg_some hF
  obtain ⟨o_11, hr_12, hF⟩ := zb1_some hF
  refine z_getRS (n := 12) dX6_goes_9 rfl zok1 fX6_71_1 rfl hk_9 (Or.inl (zbig hb_10)) hr_12 ?_
  obtain ⟨n_13, hk_14, hF⟩ := zka_some hF
  obtain ⟨x_16, c_15, hF⟩ := zb1_some hF
  refine z_cV (n := 15) (st := [.int v2_6]) (C_J2_size htr c_15) dX6_goes_12 rfl (lw_V q833 q834 q835 q109 q836) hcee_J2_size rfl (by decide) hk_14 rfl rfl rfl (Nat.le_of_ble_eq_true rfl) (Nat.le_refl _) (Nat.le_refl _) ?_
  refine z_icmp_ge (n := 18) (t := 36) dX6_goes_15 rfl (by decide) (fun hc => ?_) (fun hc => ?_)
  · replace hF := (if_pos hc).symm.trans hF
    refine z_sub [0, 1] rfl ?_
    have hF := Option.some.inj hF; subst hF
    exact kx I_7 rfl
  · replace hF := (if_neg hc).symm.trans hF
    refine z_aload_n (n := 19) dX6_goes_18 rfl 0 rfl rfl ?_
    refine z_aload_n (n := 20) dX6_goes_19 rfl 1 rfl rfl ?_
    refine z_iload_n (n := 21) dX6_goes_20 rfl 2 rfl rfl ?_
    obtain ⟨n_17, hk_18, hF⟩ := zka_some hF
    obtain ⟨I_20, c_19, hF⟩ := zb1_some hF
    refine z_cV (n := 24) (st := []) (C_X6_hunts htr c_19) dX6_goes_21 rfl (lw_V q837 q839 qs8 q130 q840) hcee_X6_hunts rfl (by decide) hk_18 rfl rfl rfl (Nat.le_of_ble_eq_true rfl) (Nat.le_refl _) (Nat.le_refl _) ?_
    refine z_aload_n (n := 25) dX6_goes_24 rfl 0 rfl rfl ?_
    refine z_aload_n (n := 26) dX6_goes_25 rfl 1 rfl rfl ?_
    refine z_iload_n (n := 27) dX6_goes_26 rfl 2 rfl rfl ?_
    obtain ⟨I_22, c_21, hF⟩ := zb1_some hF
    refine z_cV (n := 30) (st := []) (C_X6_pays htr c_21) dX6_goes_27 rfl (lw_V q893 q895 qs10 q130 q896) hcee_X6_pays rfl (by decide) hk_18 rfl rfl rfl (Nat.le_of_ble_eq_true rfl) (Nat.le_refl _) (Nat.le_refl _) ?_
    obtain ⟨v2_23, e_24, hF⟩ := zlet_ob hF
    refine z_iincE (n := 33) (w := 1) (v := v2_23) (lv' := [(2, .int v2_23), (0, .ref o0), (1, .ref a0)]) dX6_goes_30 rfl 2 rfl (by decide) e_24 (by decide) rfl ?_
    refine z_goto (t := 7) dX6_goes_33 (by decide) ?_
    refine z_sub [1, 2, 0] rfl ?_
    have hF := Option.some.inj hF; subst hF
    exact kl v2_23 I_22 rfl
set_option maxHeartbeats 1000000 in
theorem C_X6_goes {l : Launch} {G : zGt} (htr : l.stackTraces = false) {K : zKd} {F : zFd} {L : zLd} {o0 : Nat} {a0 : Nat} {I : zId} {r : zId} (hF : F_X6_goes K F o0 a0 I = some r) : zMet l G yX6_goes (ws_ yX6_goes cX6_goes 3 none) 1004 24049 0 0 [.ref o0, .ref a0] K F I L (zQe (.inl none) K F r L) := by
  refine zMet.of (by decide +kernel) htr (Nat.le_of_ble_eq_true rfl) ?_
  change zW l G MX6_goes 1004 24049 0 0 0 [(0, .ref o0), (1, .ref a0)] [] K F I L (zQe (.inl none) K F r L)
  unfold F_X6_goes at hF
  refine z_aload_n (n := 1) dX6_goes_0 rfl 0 rfl rfl ?_
  refine z_iconst (n := 2) (v := (-1)) dX6_goes_1 rfl (by decide) ?_
  obtain ⟨n_1, hk_2, hF⟩ := zka_some hF
  obtain ⟨hb_3, hF⟩ := zg_some hF
  obtain ⟨I_4, e_5, hF⟩ := zlet_ob hF
  refine z_putIE (n := 5) dX6_goes_2 rfl zok5 fX6_152_5 (Or.inl ⟨_, rfl, rfl⟩) rfl ⟨rfl, rfl⟩ hk_2 (zbig hb_3) e_5 ?_
  refine z_iconst (n := 6) (v := 0) dX6_goes_5 rfl (by decide) ?_
  refine z_istore_nE (n := 7) (lv' := [(2, .int 0), (0, .ref o0), (1, .ref a0)]) dX6_goes_6 rfl rfl rfl (by decide) rfl ?_
  refine z_sub [1, 2, 0] rfl ?_
  obtain ⟨t_31, e_30, hF⟩ := zb1_some hF
  obtain ⟨I_25, rfl⟩ : ∃ z, z = t_31 := ⟨_, rfl⟩
  have H_32 : zW l G MX6_goes 1004 24049 0 0 36 [(0, .ref o0), (1, .ref a0)] [] K F I_25 L (zQe (.inl none) K F r L) := by
    refine z_aload_n (n := 37) dX6_goes_36 rfl 0 rfl rfl ?_
    refine z_aload_n (n := 38) dX6_goes_37 rfl 1 rfl rfl ?_
    obtain ⟨I_27, c_26, hF⟩ := zb1_some hF
    refine z_cV (n := 41) (st := []) (C_X6_grows htr c_26) dX6_goes_38 rfl (lw_V q897 q899 qs11 q130 q900) hcee_X6_grows rfl (by decide) hk_2 rfl rfl rfl (Nat.le_of_ble_eq_true rfl) (Nat.le_refl _) (Nat.le_refl _) ?_
    refine z_aload_n (n := 42) dX6_goes_41 rfl 0 rfl rfl ?_
    refine z_dup (n := 43) dX6_goes_42 rfl rfl ?_
    refine z_getI (n := 46) dX6_goes_43 rfl zok5 fX6_39_5 rfl hk_2 (Or.inl (zbig hb_3)) ?_
    refine z_iconst (n := 47) (v := 1) dX6_goes_46 rfl (by decide) ?_
    refine z_iadd (n := 48) dX6_goes_47 rfl ?_
    obtain ⟨I_28, e_29, hF⟩ := zlet_ob hF
    refine z_putIE (n := 51) dX6_goes_48 rfl zok5 fX6_39_5 (Or.inl ⟨_, rfl, rfl⟩) rfl ⟨rfl, rfl⟩ hk_2 (zbig hb_3) e_29 ?_
    have hF := Option.some.inj hF; subst hF
    exact z_vret dX6_goes_51 rfl ⟨rfl, rfl, rfl, rfl, rfl⟩
  refine zloop_ind (P := fun s : Int32 × zId => zW l G MX6_goes 1004 24049 0 0 7 [(0, .ref o0), (1, .ref a0), (2, .int s.1)] [] K F s.2 L (zQe (.inl none) K F r L)) (fun s r hb kl kr => ?_) e_30
  exact W_X6_goes_L7 (o0 := o0) (a0 := a0) htr hb (fun z0 z1 e => kl _ e) (fun y0 e => by cases kr _ e; exact H_32)
abbrev MX6_like : zM := (RX6, cX6_like, 2, none, "like", [])
noncomputable def F_X6_like (K : zKd) (F : zFd) (o0 : Nat) (a0 : Nat) (I : zId) : Option (zId) := zka K a0 5 (fun n_1 => zg (decide (600 ≤ a0)) (zb1 (F a0 0) (fun o_4 => zka K o0 5 (fun n_6 => zg (decide (600 ≤ o0)) (zb1 (F o0 0) (fun o_9 => zka K o_4 64 (fun n_11 => zka K o_9 64 (fun n_13 => zg (decide (600 ≤ o_4)) (zg (decide (600 ≤ o_9)) (zg (zcpok 0 0 8 n_11 n_13) (zlet (zcpy I o_4 0 o_9 0 8) (fun I_18 => zb1 (F a0 1) (fun o_20 => zb1 (F o0 1) (fun o_22 => zka K o_20 64 (fun n_24 => zka K o_22 64 (fun n_26 => zg (decide (600 ≤ o_20)) (zg (decide (600 ≤ o_22)) (zg (zcpok 0 0 8 n_24 n_26) (zlet (zcpy I_18 o_20 0 o_22 0 8) (fun I_31 => zb1 (F a0 2) (fun o_33 => zb1 (F o0 2) (fun o_35 => zka K o_33 64 (fun n_37 => zka K o_35 64 (fun n_39 => zg (decide (600 ≤ o_33)) (zg (decide (600 ≤ o_35)) (zg (zcpok 0 0 8 n_37 n_39) (zlet (zcpy I_31 o_33 0 o_35 0 8) (fun I_44 => zb1 (F a0 3) (fun o_46 => zb1 (F o0 3) (fun o_48 => zka K o_46 64 (fun n_50 => zka K o_48 64 (fun n_52 => zg (decide (600 ≤ o_46)) (zg (decide (600 ≤ o_48)) (zg (zcpok 0 0 6 n_50 n_52) (zlet (zcpy I_44 o_46 0 o_48 0 6) (fun I_57 => zb1 (F a0 4) (fun o_59 => zb1 (F o0 4) (fun o_61 => zka K o_59 64 (fun n_63 => zka K o_61 64 (fun n_65 => zg (decide (600 ≤ o_59)) (zg (decide (600 ≤ o_61)) (zg (zcpok 0 0 6 n_63 n_65) (zlet (zcpy I_57 o_59 0 o_61 0 6) (fun I_70 => zb1 (F a0 5) (fun o_72 => zb1 (F o0 5) (fun o_74 => zka K o_72 64 (fun n_76 => zka K o_74 64 (fun n_78 => zg (decide (600 ≤ o_72)) (zg (decide (600 ≤ o_74)) (zg (zcpok 0 0 6 n_76 n_78) (zlet (zcpy I_70 o_72 0 o_74 0 6) (fun I_83 => zb1 (F a0 6) (fun o_85 => zb1 (F o0 6) (fun o_87 => zka K o_85 64 (fun n_89 => zka K o_87 64 (fun n_91 => zg (decide (600 ≤ o_85)) (zg (decide (600 ≤ o_87)) (zg (zcpok 0 0 6 n_89 n_91) (zlet (zcpy I_83 o_85 0 o_87 0 6) (fun I_96 => zb1 (F a0 7) (fun o_98 => zb1 (F o0 7) (fun o_100 => zka K o_98 64 (fun n_102 => zka K o_100 64 (fun n_104 => zg (decide (600 ≤ o_98)) (zg (decide (600 ≤ o_100)) (zg (zcpok 0 0 6 n_102 n_104) (zlet (zcpy I_96 o_98 0 o_100 0 6) (fun I_109 => zb1 (F a0 8) (fun o_111 => zb1 (F o0 8) (fun o_113 => zka K o_111 64 (fun n_115 => zka K o_113 64 (fun n_117 => zg (decide (600 ≤ o_111)) (zg (decide (600 ≤ o_113)) (zg (zcpok 0 0 6 n_115 n_117) (zlet (zcpy I_109 o_111 0 o_113 0 6) (fun I_122 => zlet (zu I_122 o0 9 (I_122 a0 9)) (fun I_124 => zlet (zu I_124 o0 10 (I_124 a0 10)) (fun I_126 => zlet (zu I_126 o0 11 (I_126 a0 11)) (fun I_128 => some I_128)))))))))))))))))))))))))))))))))))))))))))))))))))))))))))))))))))))))))))))))
set_option maxHeartbeats 1000000 in
theorem C_X6_like {l : Launch} {G : zGt} (htr : l.stackTraces = false) {K : zKd} {F : zFd} {L : zLd} {o0 : Nat} {a0 : Nat} {I : zId} {r : zId} (hF : F_X6_like K F o0 a0 I = some r) : zMet l G yX6_like (ws_ yX6_like cX6_like 2 none) 1 60 0 0 [.ref o0, .ref a0] K F I L (zQe (.inl none) K F r L) := by
  refine zMet.of (by decide +kernel) htr (Nat.le_of_ble_eq_true rfl) ?_
  change zW l G MX6_like 1 60 0 0 0 [(0, .ref o0), (1, .ref a0)] [] K F I L (zQe (.inl none) K F r L)
  unfold F_X6_like at hF
  refine z_aload_n (n := 1) dX6_like_0 rfl 1 rfl rfl ?_
  obtain ⟨n_1, hk_2, hF⟩ := zka_some hF
  obtain ⟨hb_3, hF⟩ := zg_some hF
  obtain ⟨o_4, hr_5, hF⟩ := zb1_some hF
  refine z_getRS (n := 4) dX6_like_1 rfl zok5 fX6_9_5 rfl hk_2 (Or.inl (zbig hb_3)) hr_5 ?_
  refine z_iconst (n := 5) (v := 0) dX6_like_4 rfl (by decide) ?_
  refine z_aload_n (n := 6) dX6_like_5 rfl 0 rfl rfl ?_
  obtain ⟨n_6, hk_7, hF⟩ := zka_some hF
  obtain ⟨hb_8, hF⟩ := zg_some hF
  obtain ⟨o_9, hr_10, hF⟩ := zb1_some hF
  refine z_getRS (n := 9) dX6_like_6 rfl zok5 fX6_9_5 rfl hk_7 (Or.inl (zbig hb_8)) hr_10 ?_
  refine z_iconst (n := 10) (v := 0) dX6_like_9 rfl (by decide) ?_
  refine z_bipush (n := 12) (v := 8) dX6_like_10 rfl (by decide) ?_
  obtain ⟨n_11, hk_12, hF⟩ := zka_some hF
  obtain ⟨n_13, hk_14, hF⟩ := zka_some hF
  obtain ⟨hb_15, hF⟩ := zg_some hF
  obtain ⟨hb_16, hF⟩ := zg_some hF
  obtain ⟨h_17, hF⟩ := zg_some hF
  obtain ⟨I_18, e_19, hF⟩ := zlet_ob hF
  refine z_copyi (sk := 0) (dk := 0) (nk := 8) (n := 15) dX6_like_12 rfl q824 q294 q293 q121 hk_12 hk_14 (zbig hb_15) (zbig hb_16) h_17 (by decide) (by decide) (by decide)  e_19 (by decide) (Nat.le_of_ble_eq_true rfl) ?_
  refine z_aload_n (n := 16) dX6_like_15 rfl 1 rfl rfl ?_
  obtain ⟨o_20, hr_21, hF⟩ := zb1_some hF
  refine z_getRS (n := 19) dX6_like_16 rfl zok5 fX6_15_5 rfl hk_2 (Or.inl (zbig hb_3)) hr_21 ?_
  refine z_iconst (n := 20) (v := 0) dX6_like_19 rfl (by decide) ?_
  refine z_aload_n (n := 21) dX6_like_20 rfl 0 rfl rfl ?_
  obtain ⟨o_22, hr_23, hF⟩ := zb1_some hF
  refine z_getRS (n := 24) dX6_like_21 rfl zok5 fX6_15_5 rfl hk_7 (Or.inl (zbig hb_8)) hr_23 ?_
  refine z_iconst (n := 25) (v := 0) dX6_like_24 rfl (by decide) ?_
  refine z_bipush (n := 27) (v := 8) dX6_like_25 rfl (by decide) ?_
  obtain ⟨n_24, hk_25, hF⟩ := zka_some hF
  obtain ⟨n_26, hk_27, hF⟩ := zka_some hF
  obtain ⟨hb_28, hF⟩ := zg_some hF
  obtain ⟨hb_29, hF⟩ := zg_some hF
  obtain ⟨h_30, hF⟩ := zg_some hF
  obtain ⟨I_31, e_32, hF⟩ := zlet_ob hF
  refine z_copyi (sk := 0) (dk := 0) (nk := 8) (n := 30) dX6_like_27 rfl q824 q294 q293 q121 hk_25 hk_27 (zbig hb_28) (zbig hb_29) h_30 (by decide) (by decide) (by decide)  e_32 (by decide) (Nat.le_of_ble_eq_true rfl) ?_
  refine z_aload_n (n := 31) dX6_like_30 rfl 1 rfl rfl ?_
  obtain ⟨o_33, hr_34, hF⟩ := zb1_some hF
  refine z_getRS (n := 34) dX6_like_31 rfl zok5 fX6_18_5 rfl hk_2 (Or.inl (zbig hb_3)) hr_34 ?_
  refine z_iconst (n := 35) (v := 0) dX6_like_34 rfl (by decide) ?_
  refine z_aload_n (n := 36) dX6_like_35 rfl 0 rfl rfl ?_
  obtain ⟨o_35, hr_36, hF⟩ := zb1_some hF
  refine z_getRS (n := 39) dX6_like_36 rfl zok5 fX6_18_5 rfl hk_7 (Or.inl (zbig hb_8)) hr_36 ?_
  refine z_iconst (n := 40) (v := 0) dX6_like_39 rfl (by decide) ?_
  refine z_bipush (n := 42) (v := 8) dX6_like_40 rfl (by decide) ?_
  obtain ⟨n_37, hk_38, hF⟩ := zka_some hF
  obtain ⟨n_39, hk_40, hF⟩ := zka_some hF
  obtain ⟨hb_41, hF⟩ := zg_some hF
  obtain ⟨hb_42, hF⟩ := zg_some hF
  obtain ⟨h_43, hF⟩ := zg_some hF
  obtain ⟨I_44, e_45, hF⟩ := zlet_ob hF
  refine z_copyi (sk := 0) (dk := 0) (nk := 8) (n := 45) dX6_like_42 rfl q824 q294 q293 q121 hk_38 hk_40 (zbig hb_41) (zbig hb_42) h_43 (by decide) (by decide) (by decide)  e_45 (by decide) (Nat.le_of_ble_eq_true rfl) ?_
  refine z_aload_n (n := 46) dX6_like_45 rfl 1 rfl rfl ?_
  obtain ⟨o_46, hr_47, hF⟩ := zb1_some hF
  refine z_getRS (n := 49) dX6_like_46 rfl zok5 fX6_21_5 rfl hk_2 (Or.inl (zbig hb_3)) hr_47 ?_
  refine z_iconst (n := 50) (v := 0) dX6_like_49 rfl (by decide) ?_
  refine z_aload_n (n := 51) dX6_like_50 rfl 0 rfl rfl ?_
  obtain ⟨o_48, hr_49, hF⟩ := zb1_some hF
  refine z_getRS (n := 54) dX6_like_51 rfl zok5 fX6_21_5 rfl hk_7 (Or.inl (zbig hb_8)) hr_49 ?_
  refine z_iconst (n := 55) (v := 0) dX6_like_54 rfl (by decide) ?_
  refine z_bipush (n := 57) (v := 6) dX6_like_55 rfl (by decide) ?_
  obtain ⟨n_50, hk_51, hF⟩ := zka_some hF
  obtain ⟨n_52, hk_53, hF⟩ := zka_some hF
  obtain ⟨hb_54, hF⟩ := zg_some hF
  obtain ⟨hb_55, hF⟩ := zg_some hF
  obtain ⟨h_56, hF⟩ := zg_some hF
  obtain ⟨I_57, e_58, hF⟩ := zlet_ob hF
  refine z_copyi (sk := 0) (dk := 0) (nk := 6) (n := 60) dX6_like_57 rfl q824 q294 q293 q121 hk_51 hk_53 (zbig hb_54) (zbig hb_55) h_56 (by decide) (by decide) (by decide)  e_58 (by decide) (Nat.le_of_ble_eq_true rfl) ?_
  refine z_aload_n (n := 61) dX6_like_60 rfl 1 rfl rfl ?_
  obtain ⟨o_59, hr_60, hF⟩ := zb1_some hF
  refine z_getRS (n := 64) dX6_like_61 rfl zok5 fX6_24_5 rfl hk_2 (Or.inl (zbig hb_3)) hr_60 ?_
  refine z_iconst (n := 65) (v := 0) dX6_like_64 rfl (by decide) ?_
  refine z_aload_n (n := 66) dX6_like_65 rfl 0 rfl rfl ?_
  obtain ⟨o_61, hr_62, hF⟩ := zb1_some hF
  refine z_getRS (n := 69) dX6_like_66 rfl zok5 fX6_24_5 rfl hk_7 (Or.inl (zbig hb_8)) hr_62 ?_
  refine z_iconst (n := 70) (v := 0) dX6_like_69 rfl (by decide) ?_
  refine z_bipush (n := 72) (v := 6) dX6_like_70 rfl (by decide) ?_
  obtain ⟨n_63, hk_64, hF⟩ := zka_some hF
  obtain ⟨n_65, hk_66, hF⟩ := zka_some hF
  obtain ⟨hb_67, hF⟩ := zg_some hF
  obtain ⟨hb_68, hF⟩ := zg_some hF
  obtain ⟨h_69, hF⟩ := zg_some hF
  obtain ⟨I_70, e_71, hF⟩ := zlet_ob hF
  refine z_copyi (sk := 0) (dk := 0) (nk := 6) (n := 75) dX6_like_72 rfl q824 q294 q293 q121 hk_64 hk_66 (zbig hb_67) (zbig hb_68) h_69 (by decide) (by decide) (by decide)  e_71 (by decide) (Nat.le_of_ble_eq_true rfl) ?_
  refine z_aload_n (n := 76) dX6_like_75 rfl 1 rfl rfl ?_
  obtain ⟨o_72, hr_73, hF⟩ := zb1_some hF
  refine z_getRS (n := 79) dX6_like_76 rfl zok5 fX6_27_5 rfl hk_2 (Or.inl (zbig hb_3)) hr_73 ?_
  refine z_iconst (n := 80) (v := 0) dX6_like_79 rfl (by decide) ?_
  refine z_aload_n (n := 81) dX6_like_80 rfl 0 rfl rfl ?_
  obtain ⟨o_74, hr_75, hF⟩ := zb1_some hF
  refine z_getRS (n := 84) dX6_like_81 rfl zok5 fX6_27_5 rfl hk_7 (Or.inl (zbig hb_8)) hr_75 ?_
  refine z_iconst (n := 85) (v := 0) dX6_like_84 rfl (by decide) ?_
  refine z_bipush (n := 87) (v := 6) dX6_like_85 rfl (by decide) ?_
  obtain ⟨n_76, hk_77, hF⟩ := zka_some hF
  obtain ⟨n_78, hk_79, hF⟩ := zka_some hF
  obtain ⟨hb_80, hF⟩ := zg_some hF
  obtain ⟨hb_81, hF⟩ := zg_some hF
  obtain ⟨h_82, hF⟩ := zg_some hF
  obtain ⟨I_83, e_84, hF⟩ := zlet_ob hF
  refine z_copyi (sk := 0) (dk := 0) (nk := 6) (n := 90) dX6_like_87 rfl q824 q294 q293 q121 hk_77 hk_79 (zbig hb_80) (zbig hb_81) h_82 (by decide) (by decide) (by decide)  e_84 (by decide) (Nat.le_of_ble_eq_true rfl) ?_
  refine z_aload_n (n := 91) dX6_like_90 rfl 1 rfl rfl ?_
  obtain ⟨o_85, hr_86, hF⟩ := zb1_some hF
  refine z_getRS (n := 94) dX6_like_91 rfl zok5 fX6_30_5 rfl hk_2 (Or.inl (zbig hb_3)) hr_86 ?_
  refine z_iconst (n := 95) (v := 0) dX6_like_94 rfl (by decide) ?_
  refine z_aload_n (n := 96) dX6_like_95 rfl 0 rfl rfl ?_
  obtain ⟨o_87, hr_88, hF⟩ := zb1_some hF
  refine z_getRS (n := 99) dX6_like_96 rfl zok5 fX6_30_5 rfl hk_7 (Or.inl (zbig hb_8)) hr_88 ?_
  refine z_iconst (n := 100) (v := 0) dX6_like_99 rfl (by decide) ?_
  refine z_bipush (n := 102) (v := 6) dX6_like_100 rfl (by decide) ?_
  obtain ⟨n_89, hk_90, hF⟩ := zka_some hF
  obtain ⟨n_91, hk_92, hF⟩ := zka_some hF
  obtain ⟨hb_93, hF⟩ := zg_some hF
  obtain ⟨hb_94, hF⟩ := zg_some hF
  obtain ⟨h_95, hF⟩ := zg_some hF
  obtain ⟨I_96, e_97, hF⟩ := zlet_ob hF
  refine z_copyi (sk := 0) (dk := 0) (nk := 6) (n := 105) dX6_like_102 rfl q824 q294 q293 q121 hk_90 hk_92 (zbig hb_93) (zbig hb_94) h_95 (by decide) (by decide) (by decide)  e_97 (by decide) (Nat.le_of_ble_eq_true rfl) ?_
  refine z_aload_n (n := 106) dX6_like_105 rfl 1 rfl rfl ?_
  obtain ⟨o_98, hr_99, hF⟩ := zb1_some hF
  refine z_getRS (n := 109) dX6_like_106 rfl zok5 fX6_33_5 rfl hk_2 (Or.inl (zbig hb_3)) hr_99 ?_
  refine z_iconst (n := 110) (v := 0) dX6_like_109 rfl (by decide) ?_
  refine z_aload_n (n := 111) dX6_like_110 rfl 0 rfl rfl ?_
  obtain ⟨o_100, hr_101, hF⟩ := zb1_some hF
  refine z_getRS (n := 114) dX6_like_111 rfl zok5 fX6_33_5 rfl hk_7 (Or.inl (zbig hb_8)) hr_101 ?_
  refine z_iconst (n := 115) (v := 0) dX6_like_114 rfl (by decide) ?_
  refine z_bipush (n := 117) (v := 6) dX6_like_115 rfl (by decide) ?_
  obtain ⟨n_102, hk_103, hF⟩ := zka_some hF
  obtain ⟨n_104, hk_105, hF⟩ := zka_some hF
  obtain ⟨hb_106, hF⟩ := zg_some hF
  obtain ⟨hb_107, hF⟩ := zg_some hF
  obtain ⟨h_108, hF⟩ := zg_some hF
  obtain ⟨I_109, e_110, hF⟩ := zlet_ob hF
  refine z_copyi (sk := 0) (dk := 0) (nk := 6) (n := 120) dX6_like_117 rfl q824 q294 q293 q121 hk_103 hk_105 (zbig hb_106) (zbig hb_107) h_108 (by decide) (by decide) (by decide)  e_110 (by decide) (Nat.le_of_ble_eq_true rfl) ?_
  refine z_aload_n (n := 121) dX6_like_120 rfl 1 rfl rfl ?_
  obtain ⟨o_111, hr_112, hF⟩ := zb1_some hF
  refine z_getRS (n := 124) dX6_like_121 rfl zok5 fX6_36_5 rfl hk_2 (Or.inl (zbig hb_3)) hr_112 ?_
  refine z_iconst (n := 125) (v := 0) dX6_like_124 rfl (by decide) ?_
  refine z_aload_n (n := 126) dX6_like_125 rfl 0 rfl rfl ?_
  obtain ⟨o_113, hr_114, hF⟩ := zb1_some hF
  refine z_getRS (n := 129) dX6_like_126 rfl zok5 fX6_36_5 rfl hk_7 (Or.inl (zbig hb_8)) hr_114 ?_
  refine z_iconst (n := 130) (v := 0) dX6_like_129 rfl (by decide) ?_
  refine z_bipush (n := 132) (v := 6) dX6_like_130 rfl (by decide) ?_
  obtain ⟨n_115, hk_116, hF⟩ := zka_some hF
  obtain ⟨n_117, hk_118, hF⟩ := zka_some hF
  obtain ⟨hb_119, hF⟩ := zg_some hF
  obtain ⟨hb_120, hF⟩ := zg_some hF
  obtain ⟨h_121, hF⟩ := zg_some hF
  obtain ⟨I_122, e_123, hF⟩ := zlet_ob hF
  refine z_copyi (sk := 0) (dk := 0) (nk := 6) (n := 135) dX6_like_132 rfl q824 q294 q293 q121 hk_116 hk_118 (zbig hb_119) (zbig hb_120) h_121 (by decide) (by decide) (by decide)  e_123 (by decide) (Nat.le_of_ble_eq_true rfl) ?_
  refine z_aload_n (n := 136) dX6_like_135 rfl 0 rfl rfl ?_
  refine z_aload_n (n := 137) dX6_like_136 rfl 1 rfl rfl ?_
  refine z_getI (n := 140) dX6_like_137 rfl zok5 fX6_39_5 rfl hk_2 (Or.inl (zbig hb_3)) ?_
  obtain ⟨I_124, e_125, hF⟩ := zlet_ob hF
  refine z_putIE (n := 143) dX6_like_140 rfl zok5 fX6_39_5 (Or.inl ⟨_, rfl, rfl⟩) rfl ⟨rfl, rfl⟩ hk_7 (zbig hb_8) e_125 ?_
  refine z_aload_n (n := 144) dX6_like_143 rfl 0 rfl rfl ?_
  refine z_aload_n (n := 145) dX6_like_144 rfl 1 rfl rfl ?_
  refine z_getI (n := 148) dX6_like_145 rfl zok5 fX6_43_5 rfl hk_2 (Or.inl (zbig hb_3)) ?_
  obtain ⟨I_126, e_127, hF⟩ := zlet_ob hF
  refine z_putIE (n := 151) dX6_like_148 rfl zok5 fX6_43_5 (Or.inl ⟨_, rfl, rfl⟩) rfl ⟨rfl, rfl⟩ hk_7 (zbig hb_8) e_127 ?_
  refine z_aload_n (n := 152) dX6_like_151 rfl 0 rfl rfl ?_
  refine z_aload_n (n := 153) dX6_like_152 rfl 1 rfl rfl ?_
  refine z_getI (n := 156) dX6_like_153 rfl zok5 fX6_46_5 rfl hk_2 (Or.inl (zbig hb_3)) ?_
  obtain ⟨I_128, e_129, hF⟩ := zlet_ob hF
  refine z_putIE (n := 159) dX6_like_156 rfl zok5 fX6_46_5 (Or.inl ⟨_, rfl, rfl⟩) rfl ⟨rfl, rfl⟩ hk_7 (zbig hb_8) e_129 ?_
  have hF := Option.some.inj hF; subst hF
  exact z_vret dX6_like_159 rfl ⟨rfl, rfl, rfl, rfl, rfl⟩
abbrev MX6_all : zM := (RX6, cX6_all, 4, (some .int), "all", [])
noncomputable def F_X6_all_L4 (K : zKd) (F : zFd) (o0 : Nat) (a0 : Int32) (I : zId) (v2_1 : Int32) (v3_2 : Int32) : Option ((Int32 × Int32) ⊕ (Int32)) := if a0 ≤ v3_2 then some (.inr (v2_1)) else zka K o0 5 (fun n_3 => zg (decide (600 ≤ o0)) (zb1 (F o0 0) (fun o_6 => zka K o_6 64 (fun n_8 => zg (zin v3_2 n_8) (zlet (v2_1 + (I o_6 v3_2.toNatClampNeg)) (fun v2_11 => zlet (v3_2 + 1) (fun v3_13 => some (.inl (v2_11, v3_13)))))))))
noncomputable def F_X6_all (K : zKd) (F : zFd) (o0 : Nat) (a0 : Int32) (I : zId) : Option (Int32) := zb1 (zloop (fun s : Int32 × Int32 => F_X6_all_L4 K F o0 a0 I s.1 s.2) (0, 0)) (fun v2_15 => some v2_15)
set_option maxHeartbeats 1000000 in
theorem W_X6_all_L4 {l : Launch} {G : zGt} (htr : l.stackTraces = false) {K : zKd} {F : zFd} {L : zLd} {Q : zQt} {o0 : Nat} {a0 : Int32} {I : zId} {v2_1 : Int32} {v3_2 : Int32} {r : (Int32 × Int32) ⊕ (Int32)} (hF : F_X6_all_L4 K F o0 a0 I v2_1 v3_2 = some r) (kl : ∀ (z0 : Int32) (z1 : Int32), r = .inl (z0, z1) → zW l G MX6_all 0 0 0 0 4 [(0, .ref o0), (1, .int a0), (2, .int z0), (3, .int z1)] [] K F I L Q) (kx : ∀ (y0 : Int32), r = .inr y0 → zW l G MX6_all 0 0 0 0 24 [(2, .int y0)] [] K F I L Q)  : zW l G MX6_all 0 0 0 0 4 [(0, .ref o0), (1, .int a0), (2, .int v2_1), (3, .int v3_2)] [] K F I L Q := by
  unfold F_X6_all_L4 at hF
  refine z_iload_n (n := 5) dX6_all_4 rfl 3 rfl rfl ?_
  refine z_iload_n (n := 6) dX6_all_5 rfl 1 rfl rfl ?_
  refine z_icmp_ge (n := 9) (t := 24) dX6_all_6 rfl (by decide) (fun hc => ?_) (fun hc => ?_)
  · replace hF := (if_pos hc).symm.trans hF
    refine z_sub [2] rfl ?_
    have hF := Option.some.inj hF; subst hF
    exact kx v2_1 rfl
  · replace hF := (if_neg hc).symm.trans hF
    refine z_iload_n (n := 10) dX6_all_9 rfl 2 rfl rfl ?_
    refine z_aload_n (n := 11) dX6_all_10 rfl 0 rfl rfl ?_
    obtain ⟨n_3, hk_4, hF⟩ := zka_some hF
    obtain ⟨hb_5, hF⟩ := zg_some hF
    obtain ⟨o_6, hr_7, hF⟩ := zb1_some hF
    refine z_getRS (n := 14) dX6_all_11 rfl zok5 fX6_9_5 rfl hk_4 (Or.inl (zbig hb_5)) hr_7 ?_
    refine z_iload_n (n := 15) dX6_all_14 rfl 3 rfl rfl ?_
    obtain ⟨n_8, hk_9, hF⟩ := zka_some hF
    obtain ⟨h_10, hF⟩ := zg_some hF
    refine z_ialdK (n := 16) v3_2.toNatClampNeg rfl dX6_all_15 rfl hk_9 (zin_ok h_10) ?_
    refine z_iadd (n := 17) dX6_all_16 rfl ?_
    obtain ⟨v2_11, e_12, hF⟩ := zlet_ob hF
    refine z_istore_nE (n := 18) (lv' := [(2, .int v2_11), (0, .ref o0), (1, .int a0), (3, .int v3_2)]) dX6_all_17 rfl e_12 rfl (by decide) rfl ?_
    obtain ⟨v3_13, e_14, hF⟩ := zlet_ob hF
    refine z_iincE (n := 21) (w := 1) (v := v3_13) (lv' := [(3, .int v3_13), (2, .int v2_11), (0, .ref o0), (1, .int a0)]) dX6_all_18 rfl 3 rfl (by decide) e_14 (by decide) rfl ?_
    refine z_goto (t := 4) dX6_all_21 (by decide) ?_
    refine z_sub [2, 3, 1, 0] rfl ?_
    have hF := Option.some.inj hF; subst hF
    exact kl v2_11 v3_13 rfl
set_option maxHeartbeats 1000000 in
theorem C_X6_all {l : Launch} {G : zGt} (htr : l.stackTraces = false) {K : zKd} {F : zFd} {L : zLd} {o0 : Nat} {a0 : Int32} {I : zId} {r : Int32} (hF : F_X6_all K F o0 a0 I = some r) : zMet l G yX6_all (ws_ yX6_all cX6_all 4 (some .int)) 0 0 0 0 [.ref o0, .int a0] K F I L (zQe (.inl (some (.int r))) K F I L) := by
  refine zMet.of (by decide +kernel) htr (Nat.le_of_ble_eq_true rfl) ?_
  change zW l G MX6_all 0 0 0 0 0 [(0, .ref o0), (1, .int a0)] [] K F I L (zQe (.inl (some (.int r))) K F I L)
  unfold F_X6_all at hF
  refine z_iconst (n := 1) (v := 0) dX6_all_0 rfl (by decide) ?_
  refine z_istore_nE (n := 2) (lv' := [(2, .int 0), (0, .ref o0), (1, .int a0)]) dX6_all_1 rfl rfl rfl (by decide) rfl ?_
  refine z_iconst (n := 3) (v := 0) dX6_all_2 rfl (by decide) ?_
  refine z_istore_nE (n := 4) (lv' := [(3, .int 0), (2, .int 0), (0, .ref o0), (1, .int a0)]) dX6_all_3 rfl rfl rfl (by decide) rfl ?_
  refine z_sub [2, 3, 1, 0] rfl ?_
  obtain ⟨t_17, e_16, hF⟩ := zb1_some hF
  obtain ⟨v2_15, rfl⟩ : ∃ z, z = t_17 := ⟨_, rfl⟩
  have H_18 : zW l G MX6_all 0 0 0 0 24 [(2, .int v2_15)] [] K F I L (zQe (.inl (some (.int r))) K F I L) := by
    refine z_iload_n (n := 25) dX6_all_24 rfl 0 rfl rfl ?_
    have hF := Option.some.inj hF; subst hF
    exact z_iret dX6_all_25 rfl rfl ⟨rfl, rfl, rfl, rfl, rfl⟩
  refine zloop_ind (P := fun s : Int32 × Int32 => zW l G MX6_all 0 0 0 0 4 [(0, .ref o0), (1, .int a0), (2, .int s.1), (3, .int s.2)] [] K F I L (zQe (.inl (some (.int r))) K F I L)) (fun s r hb kl kr => ?_) e_16
  exact W_X6_all_L4 (o0 := o0) (a0 := a0) htr hb (fun z0 z1 e => kl _ e) (fun y0 e => by cases kr _ e; exact H_18)
abbrev MX6_allDead : zM := (RX6, cX6_allDead, 4, (some .int), "allDead", [])
noncomputable def F_X6_allDead_L4 (K : zKd) (F : zFd) (o0 : Nat) (a0 : Int32) (I : zId) (v2_1 : Int32) (v3_2 : Int32) : Option ((Int32 × Int32) ⊕ (Int32)) := if a0 ≤ v3_2 then some (.inr (v2_1)) else zka K o0 5 (fun n_3 => zg (decide (600 ≤ o0)) (zb1 (F o0 8) (fun o_6 => zka K o_6 64 (fun n_8 => zg (zin v3_2 n_8) (zlet (v2_1 + (I o_6 v3_2.toNatClampNeg)) (fun v2_11 => zlet (v3_2 + 1) (fun v3_13 => some (.inl (v2_11, v3_13)))))))))
noncomputable def F_X6_allDead (K : zKd) (F : zFd) (o0 : Nat) (a0 : Int32) (I : zId) : Option (Int32) := zb1 (zloop (fun s : Int32 × Int32 => F_X6_allDead_L4 K F o0 a0 I s.1 s.2) (0, 0)) (fun v2_15 => some v2_15)
set_option maxHeartbeats 1000000 in
theorem W_X6_allDead_L4 {l : Launch} {G : zGt} (htr : l.stackTraces = false) {K : zKd} {F : zFd} {L : zLd} {Q : zQt} {o0 : Nat} {a0 : Int32} {I : zId} {v2_1 : Int32} {v3_2 : Int32} {r : (Int32 × Int32) ⊕ (Int32)} (hF : F_X6_allDead_L4 K F o0 a0 I v2_1 v3_2 = some r) (kl : ∀ (z0 : Int32) (z1 : Int32), r = .inl (z0, z1) → zW l G MX6_allDead 0 0 0 0 4 [(0, .ref o0), (1, .int a0), (2, .int z0), (3, .int z1)] [] K F I L Q) (kx : ∀ (y0 : Int32), r = .inr y0 → zW l G MX6_allDead 0 0 0 0 24 [(2, .int y0)] [] K F I L Q)  : zW l G MX6_allDead 0 0 0 0 4 [(0, .ref o0), (1, .int a0), (2, .int v2_1), (3, .int v3_2)] [] K F I L Q := by
  unfold F_X6_allDead_L4 at hF
  refine z_iload_n (n := 5) dX6_allDead_4 rfl 3 rfl rfl ?_
  refine z_iload_n (n := 6) dX6_allDead_5 rfl 1 rfl rfl ?_
  refine z_icmp_ge (n := 9) (t := 24) dX6_allDead_6 rfl (by decide) (fun hc => ?_) (fun hc => ?_)
  · replace hF := (if_pos hc).symm.trans hF
    refine z_sub [2] rfl ?_
    have hF := Option.some.inj hF; subst hF
    exact kx v2_1 rfl
  · replace hF := (if_neg hc).symm.trans hF
    refine z_iload_n (n := 10) dX6_allDead_9 rfl 2 rfl rfl ?_
    refine z_aload_n (n := 11) dX6_allDead_10 rfl 0 rfl rfl ?_
    obtain ⟨n_3, hk_4, hF⟩ := zka_some hF
    obtain ⟨hb_5, hF⟩ := zg_some hF
    obtain ⟨o_6, hr_7, hF⟩ := zb1_some hF
    refine z_getRS (n := 14) dX6_allDead_11 rfl zok5 fX6_36_5 rfl hk_4 (Or.inl (zbig hb_5)) hr_7 ?_
    refine z_iload_n (n := 15) dX6_allDead_14 rfl 3 rfl rfl ?_
    obtain ⟨n_8, hk_9, hF⟩ := zka_some hF
    obtain ⟨h_10, hF⟩ := zg_some hF
    refine z_ialdK (n := 16) v3_2.toNatClampNeg rfl dX6_allDead_15 rfl hk_9 (zin_ok h_10) ?_
    refine z_iadd (n := 17) dX6_allDead_16 rfl ?_
    obtain ⟨v2_11, e_12, hF⟩ := zlet_ob hF
    refine z_istore_nE (n := 18) (lv' := [(2, .int v2_11), (0, .ref o0), (1, .int a0), (3, .int v3_2)]) dX6_allDead_17 rfl e_12 rfl (by decide) rfl ?_
    obtain ⟨v3_13, e_14, hF⟩ := zlet_ob hF
    refine z_iincE (n := 21) (w := 1) (v := v3_13) (lv' := [(3, .int v3_13), (2, .int v2_11), (0, .ref o0), (1, .int a0)]) dX6_allDead_18 rfl 3 rfl (by decide) e_14 (by decide) rfl ?_
    refine z_goto (t := 4) dX6_allDead_21 (by decide) ?_
    refine z_sub [2, 3, 1, 0] rfl ?_
    have hF := Option.some.inj hF; subst hF
    exact kl v2_11 v3_13 rfl
set_option maxHeartbeats 1000000 in
theorem C_X6_allDead {l : Launch} {G : zGt} (htr : l.stackTraces = false) {K : zKd} {F : zFd} {L : zLd} {o0 : Nat} {a0 : Int32} {I : zId} {r : Int32} (hF : F_X6_allDead K F o0 a0 I = some r) : zMet l G yX6_allDead (ws_ yX6_allDead cX6_allDead 4 (some .int)) 0 0 0 0 [.ref o0, .int a0] K F I L (zQe (.inl (some (.int r))) K F I L) := by
  refine zMet.of (by decide +kernel) htr (Nat.le_of_ble_eq_true rfl) ?_
  change zW l G MX6_allDead 0 0 0 0 0 [(0, .ref o0), (1, .int a0)] [] K F I L (zQe (.inl (some (.int r))) K F I L)
  unfold F_X6_allDead at hF
  refine z_iconst (n := 1) (v := 0) dX6_allDead_0 rfl (by decide) ?_
  refine z_istore_nE (n := 2) (lv' := [(2, .int 0), (0, .ref o0), (1, .int a0)]) dX6_allDead_1 rfl rfl rfl (by decide) rfl ?_
  refine z_iconst (n := 3) (v := 0) dX6_allDead_2 rfl (by decide) ?_
  refine z_istore_nE (n := 4) (lv' := [(3, .int 0), (2, .int 0), (0, .ref o0), (1, .int a0)]) dX6_allDead_3 rfl rfl rfl (by decide) rfl ?_
  refine z_sub [2, 3, 1, 0] rfl ?_
  obtain ⟨t_17, e_16, hF⟩ := zb1_some hF
  obtain ⟨v2_15, rfl⟩ : ∃ z, z = t_17 := ⟨_, rfl⟩
  have H_18 : zW l G MX6_allDead 0 0 0 0 24 [(2, .int v2_15)] [] K F I L (zQe (.inl (some (.int r))) K F I L) := by
    refine z_iload_n (n := 25) dX6_allDead_24 rfl 0 rfl rfl ?_
    have hF := Option.some.inj hF; subst hF
    exact z_iret dX6_allDead_25 rfl rfl ⟨rfl, rfl, rfl, rfl, rfl⟩
  refine zloop_ind (P := fun s : Int32 × Int32 => zW l G MX6_allDead 0 0 0 0 4 [(0, .ref o0), (1, .int a0), (2, .int s.1), (3, .int s.2)] [] K F I L (zQe (.inl (some (.int r))) K F I L)) (fun s r hb kl kr => ?_) e_16
  exact W_X6_allDead_L4 (o0 := o0) (a0 := a0) htr hb (fun z0 z1 e => kl _ e) (fun y0 e => by cases kr _ e; exact H_18)
theorem fX6_67_9 : zFld RX6 67 9 0 := ⟨_, rfl, by decide, _, Or.inr ⟨_, q1128⟩, Or.inl rfl⟩
theorem fX6_69_9 : zFld RX6 69 9 1 := ⟨_, rfl, by decide, _, Or.inr ⟨_, q1130⟩, Or.inl rfl⟩
theorem fX6_76_10 : zFld RX6 76 10 0 := ⟨_, rfl, by decide, _, Or.inr ⟨_, q1170⟩, Or.inl rfl⟩
theorem fX6_78_10 : zFld RX6 78 10 1 := ⟨_, rfl, by decide, _, Or.inr ⟨_, q1172⟩, Or.inl rfl⟩
theorem fX6_81_10 : zFld RX6 81 10 2 := ⟨_, rfl, by decide, _, Or.inr ⟨_, q1174⟩, Or.inl rfl⟩
abbrev MX6_begins : zM := (RX6, cX6_begins, 3, none, "begins", [])
noncomputable def F_X6_begins_L17 (K : zKd) (F : zFd) (o0 : Nat) (a0 : Nat) (v2_10 : Int32) (I_11 : zId) : Option ((Int32 × zId) ⊕ (zId)) := zka K a0 1 (fun n_12 => zg (decide (600 ≤ a0)) (zb1 (F a0 4) (fun o_15 => zka K o_15 2 (fun n_17 => zb1 (F_J2_size K F o_15 I_11) (fun x_20 => if x_20 ≤ v2_10 then some (.inr (I_11)) else zka K o0 5 (fun n_21 => zg (decide (600 ≤ o0)) (zb1 (F o0 0) (fun o_24 => zb1 (F a0 4) (fun o_26 => zka K o_26 2 (fun n_28 => zb1 (F_J2_get K F o_26 v2_10 I_11) (fun q_31 => zb1 q_31 (fun o_32 => zka K o_32 9 (fun n_34 => zg (decide (600 ≤ o_32)) (zka K o_24 64 (fun n_37 => zg (zin v2_10 n_37) (zg (decide (600 ≤ o_24)) (zlet (zu I_11 o_24 v2_10.toNatClampNeg (I_11 o_32 0)) (fun I_41 => zb1 (F o0 1) (fun o_43 => zb1 (F a0 4) (fun o_45 => zka K o_45 2 (fun n_47 => zb1 (F_J2_get K F o_45 v2_10 I_41) (fun q_50 => zb1 q_50 (fun o_51 => zka K o_51 9 (fun n_53 => zg (decide (600 ≤ o_51)) (zka K o_43 64 (fun n_56 => zg (zin v2_10 n_56) (zg (decide (600 ≤ o_43)) (zlet (zu I_41 o_43 v2_10.toNatClampNeg (I_41 o_51 1)) (fun I_60 => zb1 (F o0 2) (fun o_62 => zka K o_62 64 (fun n_64 => zg (zin v2_10 n_64) (zg (decide (600 ≤ o_62)) (zlet (zu I_60 o_62 v2_10.toNatClampNeg 0) (fun I_68 => zlet (v2_10 + 1) (fun v2_70 => some (.inl (v2_70, I_68)))))))))))))))))))))))))))))))))))))
noncomputable def F_X6_begins_L83 (K : zKd) (F : zFd) (o0 : Nat) (a0 : Nat) (v2_73 : Int32) (I_74 : zId) : Option ((Int32 × zId) ⊕ (zId)) := zka K a0 1 (fun n_75 => zg (decide (600 ≤ a0)) (zb1 (F a0 5) (fun o_78 => zka K o_78 2 (fun n_80 => zb1 (F_J2_size K F o_78 I_74) (fun x_83 => if x_83 ≤ v2_73 then some (.inr (I_74)) else zka K o0 5 (fun n_84 => zg (decide (600 ≤ o0)) (zb1 (F o0 3) (fun o_87 => zb1 (F a0 5) (fun o_89 => zka K o_89 2 (fun n_91 => zb1 (F_J2_get K F o_89 v2_73 I_74) (fun q_94 => zb1 q_94 (fun o_95 => zka K o_95 10 (fun n_97 => zg (decide (600 ≤ o_95)) (zka K o_87 64 (fun n_100 => zg (zin v2_73 n_100) (zg (decide (600 ≤ o_87)) (zlet (zu I_74 o_87 v2_73.toNatClampNeg (I_74 o_95 0)) (fun I_104 => zb1 (F o0 4) (fun o_106 => zb1 (F a0 5) (fun o_108 => zka K o_108 2 (fun n_110 => zb1 (F_J2_get K F o_108 v2_73 I_104) (fun q_113 => zb1 q_113 (fun o_114 => zka K o_114 10 (fun n_116 => zg (decide (600 ≤ o_114)) (zka K o_106 64 (fun n_119 => zg (zin v2_73 n_119) (zg (decide (600 ≤ o_106)) (zlet (zu I_104 o_106 v2_73.toNatClampNeg (I_104 o_114 1)) (fun I_123 => zb1 (F o0 5) (fun o_125 => zb1 (F a0 5) (fun o_127 => zka K o_127 2 (fun n_129 => zb1 (F_J2_get K F o_127 v2_73 I_123) (fun q_132 => zb1 q_132 (fun o_133 => zka K o_133 10 (fun n_135 => zg (decide (600 ≤ o_133)) (zka K o_125 64 (fun n_138 => zg (zin v2_73 n_138) (zg (decide (600 ≤ o_125)) (zlet (zu I_123 o_125 v2_73.toNatClampNeg (I_123 o_133 2)) (fun I_142 => zb1 (F o0 6) (fun o_144 => zka K o_144 64 (fun n_146 => zg (zin v2_73 n_146) (zg (decide (600 ≤ o_144)) (zlet (zu I_142 o_144 v2_73.toNatClampNeg 0) (fun I_150 => zb1 (F o0 7) (fun o_152 => zka K o_152 64 (fun n_154 => zg (zin v2_73 n_154) (zg (decide (600 ≤ o_152)) (zlet (zu I_150 o_152 v2_73.toNatClampNeg 0) (fun I_158 => zb1 (F o0 8) (fun o_160 => zka K o_160 64 (fun n_162 => zg (zin v2_73 n_162) (zg (decide (600 ≤ o_160)) (zlet (zu I_158 o_160 v2_73.toNatClampNeg 0) (fun I_166 => zlet (v2_73 + 1) (fun v2_168 => some (.inl (v2_168, I_166))))))))))))))))))))))))))))))))))))))))))))))))))))))))))
noncomputable def F_X6_begins (K : zKd) (F : zFd) (o0 : Nat) (a0 : Nat) (I : zId) : Option (zId) := zka K o0 5 (fun n_1 => zg (decide (600 ≤ o0)) (zlet (zu I o0 9 0) (fun I_4 => zlet (zu I_4 o0 10 0) (fun I_6 => zlet (zu I_6 o0 11 0) (fun I_8 => zb1 (zloop (fun s : Int32 × zId => F_X6_begins_L17 K F o0 a0 s.1 s.2) (0, I_8)) (fun I_72 => zb1 (zloop (fun s : Int32 × zId => F_X6_begins_L83 K F o0 a0 s.1 s.2) (0, I_72)) (fun I_170 => some I_170)))))))
set_option maxHeartbeats 1000000 in
theorem W_X6_begins_L17 {l : Launch} {G : zGt} (htr : l.stackTraces = false) {K : zKd} {F : zFd} {L : zLd} {Q : zQt} {o0 : Nat} {a0 : Nat} {v2_10 : Int32} {I_11 : zId} {r : (Int32 × zId) ⊕ (zId)} (hF : F_X6_begins_L17 K F o0 a0 v2_10 I_11 = some r) (kl : ∀ (z0 : Int32) (z1 : zId), r = .inl (z0, z1) → zW l G MX6_begins 3 64 0 0 17 [(0, .ref o0), (1, .ref a0), (2, .int z0)] [] K F z1 L Q) (kx : ∀ (y0 : zId), r = .inr y0 → zW l G MX6_begins 3 64 0 0 81 [(0, .ref o0), (1, .ref a0)] [] K F y0 L Q)  : zW l G MX6_begins 3 64 0 0 17 [(0, .ref o0), (1, .ref a0), (2, .int v2_10)] [] K F I_11 L Q := by
  unfold F_X6_begins_L17 at hF
  refine z_iload_n (n := 18) dX6_begins_17 rfl 2 rfl rfl ?_
  refine z_aload_n (n := 19) dX6_begins_18 rfl 1 rfl rfl ?_
  obtain ⟨n_12, hk_13, hF⟩ := zka_some hF
  obtain ⟨hb_14, hF⟩ := zg_some hF
  obtain ⟨o_15, hr_16, hF⟩ := zb1_some hF
  refine z_getRS (n := 22) dX6_begins_19 rfl zok1 fX6_49_1 rfl hk_13 (Or.inl (zbig hb_14)) hr_16 ?_
  obtain ⟨n_17, hk_18, hF⟩ := zka_some hF
  obtain ⟨x_20, c_19, hF⟩ := zb1_some hF
  refine z_cV (n := 25) (st := [.int v2_10]) (C_J2_size htr c_19) dX6_begins_22 rfl (lw_V q833 q834 q835 q109 q836) hcee_J2_size rfl (by decide) hk_18 rfl rfl rfl (Nat.le_of_ble_eq_true rfl) (Nat.le_refl _) (Nat.le_refl _) ?_
  refine z_icmp_ge (n := 28) (t := 81) dX6_begins_25 rfl (by decide) (fun hc => ?_) (fun hc => ?_)
  · replace hF := (if_pos hc).symm.trans hF
    refine z_sub [0, 1] rfl ?_
    have hF := Option.some.inj hF; subst hF
    exact kx I_11 rfl
  · replace hF := (if_neg hc).symm.trans hF
    refine z_aload_n (n := 29) dX6_begins_28 rfl 0 rfl rfl ?_
    obtain ⟨n_21, hk_22, hF⟩ := zka_some hF
    obtain ⟨hb_23, hF⟩ := zg_some hF
    obtain ⟨o_24, hr_25, hF⟩ := zb1_some hF
    refine z_getRS (n := 32) dX6_begins_29 rfl zok5 fX6_9_5 rfl hk_22 (Or.inl (zbig hb_23)) hr_25 ?_
    refine z_iload_n (n := 33) dX6_begins_32 rfl 2 rfl rfl ?_
    refine z_aload_n (n := 34) dX6_begins_33 rfl 1 rfl rfl ?_
    obtain ⟨o_26, hr_27, hF⟩ := zb1_some hF
    refine z_getRS (n := 37) dX6_begins_34 rfl zok1 fX6_49_1 rfl hk_13 (Or.inl (zbig hb_14)) hr_27 ?_
    refine z_iload_n (n := 38) dX6_begins_37 rfl 2 rfl rfl ?_
    obtain ⟨n_28, hk_29, hF⟩ := zka_some hF
    obtain ⟨q_31, c_30, hF⟩ := zb1_some hF
    refine z_cV (n := 41) (st := [.int v2_10, .ref o_24]) (C_J2_get htr c_30) dX6_begins_38 rfl (lw_V q901 q813 q814 q109 q815) hcee_J2_get rfl (by decide) hk_29 rfl rfl rfl (Nat.le_of_ble_eq_true rfl) (Nat.le_refl _) (Nat.le_refl _) ?_
    obtain ⟨o_32, hr_33, hF⟩ := zb1_some hF
    rw [hr_33]
    obtain ⟨n_34, hk_35, hF⟩ := zka_some hF
    refine z_castS (n := 44) dX6_begins_41 rfl hk_35 rfl q902 rfl ?_
    obtain ⟨hb_36, hF⟩ := zg_some hF
    refine z_getI (n := 47) dX6_begins_44 rfl zok9 fX6_67_9 rfl hk_35 (Or.inl (zbig hb_36)) ?_
    obtain ⟨n_37, hk_38, hF⟩ := zka_some hF
    obtain ⟨h_39, hF⟩ := zg_some hF
    obtain ⟨hb_40, hF⟩ := zg_some hF
    obtain ⟨I_41, e_42, hF⟩ := zlet_ob hF
    refine z_iastK (n := 48) v2_10.toNatClampNeg rfl dX6_begins_47 rfl hk_38 (zbig hb_40) (zin_ok h_39) e_42 ?_
    refine z_aload_n (n := 49) dX6_begins_48 rfl 0 rfl rfl ?_
    obtain ⟨o_43, hr_44, hF⟩ := zb1_some hF
    refine z_getRS (n := 52) dX6_begins_49 rfl zok5 fX6_15_5 rfl hk_22 (Or.inl (zbig hb_23)) hr_44 ?_
    refine z_iload_n (n := 53) dX6_begins_52 rfl 2 rfl rfl ?_
    refine z_aload_n (n := 54) dX6_begins_53 rfl 1 rfl rfl ?_
    obtain ⟨o_45, hr_46, hF⟩ := zb1_some hF
    refine z_getRS (n := 57) dX6_begins_54 rfl zok1 fX6_49_1 rfl hk_13 (Or.inl (zbig hb_14)) hr_46 ?_
    refine z_iload_n (n := 58) dX6_begins_57 rfl 2 rfl rfl ?_
    obtain ⟨n_47, hk_48, hF⟩ := zka_some hF
    obtain ⟨q_50, c_49, hF⟩ := zb1_some hF
    refine z_cV (n := 61) (st := [.int v2_10, .ref o_43]) (C_J2_get htr c_49) dX6_begins_58 rfl (lw_V q901 q813 q814 q109 q815) hcee_J2_get rfl (by decide) hk_48 rfl rfl rfl (Nat.le_of_ble_eq_true rfl) (Nat.le_refl _) (Nat.le_refl _) ?_
    obtain ⟨o_51, hr_52, hF⟩ := zb1_some hF
    rw [hr_52]
    obtain ⟨n_53, hk_54, hF⟩ := zka_some hF
    refine z_castS (n := 64) dX6_begins_61 rfl hk_54 rfl q902 rfl ?_
    obtain ⟨hb_55, hF⟩ := zg_some hF
    refine z_getI (n := 67) dX6_begins_64 rfl zok9 fX6_69_9 rfl hk_54 (Or.inl (zbig hb_55)) ?_
    obtain ⟨n_56, hk_57, hF⟩ := zka_some hF
    obtain ⟨h_58, hF⟩ := zg_some hF
    obtain ⟨hb_59, hF⟩ := zg_some hF
    obtain ⟨I_60, e_61, hF⟩ := zlet_ob hF
    refine z_iastK (n := 68) v2_10.toNatClampNeg rfl dX6_begins_67 rfl hk_57 (zbig hb_59) (zin_ok h_58) e_61 ?_
    refine z_aload_n (n := 69) dX6_begins_68 rfl 0 rfl rfl ?_
    obtain ⟨o_62, hr_63, hF⟩ := zb1_some hF
    refine z_getRS (n := 72) dX6_begins_69 rfl zok5 fX6_18_5 rfl hk_22 (Or.inl (zbig hb_23)) hr_63 ?_
    refine z_iload_n (n := 73) dX6_begins_72 rfl 2 rfl rfl ?_
    refine z_iconst (n := 74) (v := 0) dX6_begins_73 rfl (by decide) ?_
    obtain ⟨n_64, hk_65, hF⟩ := zka_some hF
    obtain ⟨h_66, hF⟩ := zg_some hF
    obtain ⟨hb_67, hF⟩ := zg_some hF
    obtain ⟨I_68, e_69, hF⟩ := zlet_ob hF
    refine z_iastK (n := 75) v2_10.toNatClampNeg rfl dX6_begins_74 rfl hk_65 (zbig hb_67) (zin_ok h_66) e_69 ?_
    obtain ⟨v2_70, e_71, hF⟩ := zlet_ob hF
    refine z_iincE (n := 78) (w := 1) (v := v2_70) (lv' := [(2, .int v2_70), (0, .ref o0), (1, .ref a0)]) dX6_begins_75 rfl 2 rfl (by decide) e_71 (by decide) rfl ?_
    refine z_goto (t := 17) dX6_begins_78 (by decide) ?_
    refine z_sub [1, 2, 0] rfl ?_
    have hF := Option.some.inj hF; subst hF
    exact kl v2_70 I_68 rfl
set_option maxHeartbeats 1000000 in
theorem W_X6_begins_L83 {l : Launch} {G : zGt} (htr : l.stackTraces = false) {K : zKd} {F : zFd} {L : zLd} {Q : zQt} {o0 : Nat} {a0 : Nat} {v2_73 : Int32} {I_74 : zId} {r : (Int32 × zId) ⊕ (zId)} (hF : F_X6_begins_L83 K F o0 a0 v2_73 I_74 = some r) (kl : ∀ (z0 : Int32) (z1 : zId), r = .inl (z0, z1) → zW l G MX6_begins 3 64 0 0 83 [(0, .ref o0), (1, .ref a0), (2, .int z0)] [] K F z1 L Q) (kx : ∀ (y0 : zId), r = .inr y0 → zW l G MX6_begins 3 64 0 0 181 [] [] K F y0 L Q)  : zW l G MX6_begins 3 64 0 0 83 [(0, .ref o0), (1, .ref a0), (2, .int v2_73)] [] K F I_74 L Q := by
  unfold F_X6_begins_L83 at hF
  refine z_iload_n (n := 84) dX6_begins_83 rfl 2 rfl rfl ?_
  refine z_aload_n (n := 85) dX6_begins_84 rfl 1 rfl rfl ?_
  obtain ⟨n_75, hk_76, hF⟩ := zka_some hF
  obtain ⟨hb_77, hF⟩ := zg_some hF
  obtain ⟨o_78, hr_79, hF⟩ := zb1_some hF
  refine z_getRS (n := 88) dX6_begins_85 rfl zok1 fX6_71_1 rfl hk_76 (Or.inl (zbig hb_77)) hr_79 ?_
  obtain ⟨n_80, hk_81, hF⟩ := zka_some hF
  obtain ⟨x_83, c_82, hF⟩ := zb1_some hF
  refine z_cV (n := 91) (st := [.int v2_73]) (C_J2_size htr c_82) dX6_begins_88 rfl (lw_V q833 q834 q835 q109 q836) hcee_J2_size rfl (by decide) hk_81 rfl rfl rfl (Nat.le_of_ble_eq_true rfl) (Nat.le_refl _) (Nat.le_refl _) ?_
  refine z_icmp_ge (n := 94) (t := 181) dX6_begins_91 rfl (by decide) (fun hc => ?_) (fun hc => ?_)
  · replace hF := (if_pos hc).symm.trans hF
    refine z_sub [] rfl ?_
    have hF := Option.some.inj hF; subst hF
    exact kx I_74 rfl
  · replace hF := (if_neg hc).symm.trans hF
    refine z_aload_n (n := 95) dX6_begins_94 rfl 0 rfl rfl ?_
    obtain ⟨n_84, hk_85, hF⟩ := zka_some hF
    obtain ⟨hb_86, hF⟩ := zg_some hF
    obtain ⟨o_87, hr_88, hF⟩ := zb1_some hF
    refine z_getRS (n := 98) dX6_begins_95 rfl zok5 fX6_21_5 rfl hk_85 (Or.inl (zbig hb_86)) hr_88 ?_
    refine z_iload_n (n := 99) dX6_begins_98 rfl 2 rfl rfl ?_
    refine z_aload_n (n := 100) dX6_begins_99 rfl 1 rfl rfl ?_
    obtain ⟨o_89, hr_90, hF⟩ := zb1_some hF
    refine z_getRS (n := 103) dX6_begins_100 rfl zok1 fX6_71_1 rfl hk_76 (Or.inl (zbig hb_77)) hr_90 ?_
    refine z_iload_n (n := 104) dX6_begins_103 rfl 2 rfl rfl ?_
    obtain ⟨n_91, hk_92, hF⟩ := zka_some hF
    obtain ⟨q_94, c_93, hF⟩ := zb1_some hF
    refine z_cV (n := 107) (st := [.int v2_73, .ref o_87]) (C_J2_get htr c_93) dX6_begins_104 rfl (lw_V q901 q813 q814 q109 q815) hcee_J2_get rfl (by decide) hk_92 rfl rfl rfl (Nat.le_of_ble_eq_true rfl) (Nat.le_refl _) (Nat.le_refl _) ?_
    obtain ⟨o_95, hr_96, hF⟩ := zb1_some hF
    rw [hr_96]
    obtain ⟨n_97, hk_98, hF⟩ := zka_some hF
    refine z_castS (n := 110) dX6_begins_107 rfl hk_98 rfl q1358 rfl ?_
    obtain ⟨hb_99, hF⟩ := zg_some hF
    refine z_getI (n := 113) dX6_begins_110 rfl zok10 fX6_76_10 rfl hk_98 (Or.inl (zbig hb_99)) ?_
    obtain ⟨n_100, hk_101, hF⟩ := zka_some hF
    obtain ⟨h_102, hF⟩ := zg_some hF
    obtain ⟨hb_103, hF⟩ := zg_some hF
    obtain ⟨I_104, e_105, hF⟩ := zlet_ob hF
    refine z_iastK (n := 114) v2_73.toNatClampNeg rfl dX6_begins_113 rfl hk_101 (zbig hb_103) (zin_ok h_102) e_105 ?_
    refine z_aload_n (n := 115) dX6_begins_114 rfl 0 rfl rfl ?_
    obtain ⟨o_106, hr_107, hF⟩ := zb1_some hF
    refine z_getRS (n := 118) dX6_begins_115 rfl zok5 fX6_24_5 rfl hk_85 (Or.inl (zbig hb_86)) hr_107 ?_
    refine z_iload_n (n := 119) dX6_begins_118 rfl 2 rfl rfl ?_
    refine z_aload_n (n := 120) dX6_begins_119 rfl 1 rfl rfl ?_
    obtain ⟨o_108, hr_109, hF⟩ := zb1_some hF
    refine z_getRS (n := 123) dX6_begins_120 rfl zok1 fX6_71_1 rfl hk_76 (Or.inl (zbig hb_77)) hr_109 ?_
    refine z_iload_n (n := 124) dX6_begins_123 rfl 2 rfl rfl ?_
    obtain ⟨n_110, hk_111, hF⟩ := zka_some hF
    obtain ⟨q_113, c_112, hF⟩ := zb1_some hF
    refine z_cV (n := 127) (st := [.int v2_73, .ref o_106]) (C_J2_get htr c_112) dX6_begins_124 rfl (lw_V q901 q813 q814 q109 q815) hcee_J2_get rfl (by decide) hk_111 rfl rfl rfl (Nat.le_of_ble_eq_true rfl) (Nat.le_refl _) (Nat.le_refl _) ?_
    obtain ⟨o_114, hr_115, hF⟩ := zb1_some hF
    rw [hr_115]
    obtain ⟨n_116, hk_117, hF⟩ := zka_some hF
    refine z_castS (n := 130) dX6_begins_127 rfl hk_117 rfl q1358 rfl ?_
    obtain ⟨hb_118, hF⟩ := zg_some hF
    refine z_getI (n := 133) dX6_begins_130 rfl zok10 fX6_78_10 rfl hk_117 (Or.inl (zbig hb_118)) ?_
    obtain ⟨n_119, hk_120, hF⟩ := zka_some hF
    obtain ⟨h_121, hF⟩ := zg_some hF
    obtain ⟨hb_122, hF⟩ := zg_some hF
    obtain ⟨I_123, e_124, hF⟩ := zlet_ob hF
    refine z_iastK (n := 134) v2_73.toNatClampNeg rfl dX6_begins_133 rfl hk_120 (zbig hb_122) (zin_ok h_121) e_124 ?_
    refine z_aload_n (n := 135) dX6_begins_134 rfl 0 rfl rfl ?_
    obtain ⟨o_125, hr_126, hF⟩ := zb1_some hF
    refine z_getRS (n := 138) dX6_begins_135 rfl zok5 fX6_27_5 rfl hk_85 (Or.inl (zbig hb_86)) hr_126 ?_
    refine z_iload_n (n := 139) dX6_begins_138 rfl 2 rfl rfl ?_
    refine z_aload_n (n := 140) dX6_begins_139 rfl 1 rfl rfl ?_
    obtain ⟨o_127, hr_128, hF⟩ := zb1_some hF
    refine z_getRS (n := 143) dX6_begins_140 rfl zok1 fX6_71_1 rfl hk_76 (Or.inl (zbig hb_77)) hr_128 ?_
    refine z_iload_n (n := 144) dX6_begins_143 rfl 2 rfl rfl ?_
    obtain ⟨n_129, hk_130, hF⟩ := zka_some hF
    obtain ⟨q_132, c_131, hF⟩ := zb1_some hF
    refine z_cV (n := 147) (st := [.int v2_73, .ref o_125]) (C_J2_get htr c_131) dX6_begins_144 rfl (lw_V q901 q813 q814 q109 q815) hcee_J2_get rfl (by decide) hk_130 rfl rfl rfl (Nat.le_of_ble_eq_true rfl) (Nat.le_refl _) (Nat.le_refl _) ?_
    obtain ⟨o_133, hr_134, hF⟩ := zb1_some hF
    rw [hr_134]
    obtain ⟨n_135, hk_136, hF⟩ := zka_some hF
    refine z_castS (n := 150) dX6_begins_147 rfl hk_136 rfl q1358 rfl ?_
    obtain ⟨hb_137, hF⟩ := zg_some hF
    refine z_getI (n := 153) dX6_begins_150 rfl zok10 fX6_81_10 rfl hk_136 (Or.inl (zbig hb_137)) ?_
    obtain ⟨n_138, hk_139, hF⟩ := zka_some hF
    obtain ⟨h_140, hF⟩ := zg_some hF
    obtain ⟨hb_141, hF⟩ := zg_some hF
    obtain ⟨I_142, e_143, hF⟩ := zlet_ob hF
    refine z_iastK (n := 154) v2_73.toNatClampNeg rfl dX6_begins_153 rfl hk_139 (zbig hb_141) (zin_ok h_140) e_143 ?_
    refine z_aload_n (n := 155) dX6_begins_154 rfl 0 rfl rfl ?_
    obtain ⟨o_144, hr_145, hF⟩ := zb1_some hF
    refine z_getRS (n := 158) dX6_begins_155 rfl zok5 fX6_30_5 rfl hk_85 (Or.inl (zbig hb_86)) hr_145 ?_
    refine z_iload_n (n := 159) dX6_begins_158 rfl 2 rfl rfl ?_
    refine z_iconst (n := 160) (v := 0) dX6_begins_159 rfl (by decide) ?_
    obtain ⟨n_146, hk_147, hF⟩ := zka_some hF
    obtain ⟨h_148, hF⟩ := zg_some hF
    obtain ⟨hb_149, hF⟩ := zg_some hF
    obtain ⟨I_150, e_151, hF⟩ := zlet_ob hF
    refine z_iastK (n := 161) v2_73.toNatClampNeg rfl dX6_begins_160 rfl hk_147 (zbig hb_149) (zin_ok h_148) e_151 ?_
    refine z_aload_n (n := 162) dX6_begins_161 rfl 0 rfl rfl ?_
    obtain ⟨o_152, hr_153, hF⟩ := zb1_some hF
    refine z_getRS (n := 165) dX6_begins_162 rfl zok5 fX6_33_5 rfl hk_85 (Or.inl (zbig hb_86)) hr_153 ?_
    refine z_iload_n (n := 166) dX6_begins_165 rfl 2 rfl rfl ?_
    refine z_iconst (n := 167) (v := 0) dX6_begins_166 rfl (by decide) ?_
    obtain ⟨n_154, hk_155, hF⟩ := zka_some hF
    obtain ⟨h_156, hF⟩ := zg_some hF
    obtain ⟨hb_157, hF⟩ := zg_some hF
    obtain ⟨I_158, e_159, hF⟩ := zlet_ob hF
    refine z_iastK (n := 168) v2_73.toNatClampNeg rfl dX6_begins_167 rfl hk_155 (zbig hb_157) (zin_ok h_156) e_159 ?_
    refine z_aload_n (n := 169) dX6_begins_168 rfl 0 rfl rfl ?_
    obtain ⟨o_160, hr_161, hF⟩ := zb1_some hF
    refine z_getRS (n := 172) dX6_begins_169 rfl zok5 fX6_36_5 rfl hk_85 (Or.inl (zbig hb_86)) hr_161 ?_
    refine z_iload_n (n := 173) dX6_begins_172 rfl 2 rfl rfl ?_
    refine z_iconst (n := 174) (v := 0) dX6_begins_173 rfl (by decide) ?_
    obtain ⟨n_162, hk_163, hF⟩ := zka_some hF
    obtain ⟨h_164, hF⟩ := zg_some hF
    obtain ⟨hb_165, hF⟩ := zg_some hF
    obtain ⟨I_166, e_167, hF⟩ := zlet_ob hF
    refine z_iastK (n := 175) v2_73.toNatClampNeg rfl dX6_begins_174 rfl hk_163 (zbig hb_165) (zin_ok h_164) e_167 ?_
    obtain ⟨v2_168, e_169, hF⟩ := zlet_ob hF
    refine z_iincE (n := 178) (w := 1) (v := v2_168) (lv' := [(2, .int v2_168), (0, .ref o0), (1, .ref a0)]) dX6_begins_175 rfl 2 rfl (by decide) e_169 (by decide) rfl ?_
    refine z_goto (t := 83) dX6_begins_178 (by decide) ?_
    refine z_sub [1, 2, 0] rfl ?_
    have hF := Option.some.inj hF; subst hF
    exact kl v2_168 I_166 rfl
set_option maxHeartbeats 1000000 in
theorem C_X6_begins {l : Launch} {G : zGt} (htr : l.stackTraces = false) {K : zKd} {F : zFd} {L : zLd} {o0 : Nat} {a0 : Nat} {I : zId} {r : zId} (hF : F_X6_begins K F o0 a0 I = some r) : zMet l G yX6_begins (ws_ yX6_begins cX6_begins 3 none) 3 64 0 0 [.ref o0, .ref a0] K F I L (zQe (.inl none) K F r L) := by
  refine zMet.of (by decide +kernel) htr (Nat.le_of_ble_eq_true rfl) ?_
  change zW l G MX6_begins 3 64 0 0 0 [(0, .ref o0), (1, .ref a0)] [] K F I L (zQe (.inl none) K F r L)
  unfold F_X6_begins at hF
  refine z_aload_n (n := 1) dX6_begins_0 rfl 0 rfl rfl ?_
  refine z_iconst (n := 2) (v := 0) dX6_begins_1 rfl (by decide) ?_
  obtain ⟨n_1, hk_2, hF⟩ := zka_some hF
  obtain ⟨hb_3, hF⟩ := zg_some hF
  obtain ⟨I_4, e_5, hF⟩ := zlet_ob hF
  refine z_putIE (n := 5) dX6_begins_2 rfl zok5 fX6_39_5 (Or.inl ⟨_, rfl, rfl⟩) rfl ⟨rfl, rfl⟩ hk_2 (zbig hb_3) e_5 ?_
  refine z_aload_n (n := 6) dX6_begins_5 rfl 0 rfl rfl ?_
  refine z_iconst (n := 7) (v := 0) dX6_begins_6 rfl (by decide) ?_
  obtain ⟨I_6, e_7, hF⟩ := zlet_ob hF
  refine z_putIE (n := 10) dX6_begins_7 rfl zok5 fX6_43_5 (Or.inl ⟨_, rfl, rfl⟩) rfl ⟨rfl, rfl⟩ hk_2 (zbig hb_3) e_7 ?_
  refine z_aload_n (n := 11) dX6_begins_10 rfl 0 rfl rfl ?_
  refine z_iconst (n := 12) (v := 0) dX6_begins_11 rfl (by decide) ?_
  obtain ⟨I_8, e_9, hF⟩ := zlet_ob hF
  refine z_putIE (n := 15) dX6_begins_12 rfl zok5 fX6_46_5 (Or.inl ⟨_, rfl, rfl⟩) rfl ⟨rfl, rfl⟩ hk_2 (zbig hb_3) e_9 ?_
  refine z_iconst (n := 16) (v := 0) dX6_begins_15 rfl (by decide) ?_
  refine z_istore_nE (n := 17) (lv' := [(2, .int 0), (0, .ref o0), (1, .ref a0)]) dX6_begins_16 rfl rfl rfl (by decide) rfl ?_
  refine z_sub [1, 2, 0] rfl ?_
  obtain ⟨t_175, e_174, hF⟩ := zb1_some hF
  obtain ⟨I_72, rfl⟩ : ∃ z, z = t_175 := ⟨_, rfl⟩
  have H_176 : zW l G MX6_begins 3 64 0 0 81 [(0, .ref o0), (1, .ref a0)] [] K F I_72 L (zQe (.inl none) K F r L) := by
    refine z_iconst (n := 82) (v := 0) dX6_begins_81 rfl (by decide) ?_
    refine z_istore_nE (n := 83) (lv' := [(2, .int 0), (0, .ref o0), (1, .ref a0)]) dX6_begins_82 rfl rfl rfl (by decide) rfl ?_
    refine z_sub [1, 2, 0] rfl ?_
    obtain ⟨t_172, e_171, hF⟩ := zb1_some hF
    obtain ⟨I_170, rfl⟩ : ∃ z, z = t_172 := ⟨_, rfl⟩
    have H_173 : zW l G MX6_begins 3 64 0 0 181 [] [] K F I_170 L (zQe (.inl none) K F r L) := by
      have hF := Option.some.inj hF; subst hF
      exact z_vret dX6_begins_181 rfl ⟨rfl, rfl, rfl, rfl, rfl⟩
    refine zloop_ind (P := fun s : Int32 × zId => zW l G MX6_begins 3 64 0 0 83 [(0, .ref o0), (1, .ref a0), (2, .int s.1)] [] K F s.2 L (zQe (.inl none) K F r L)) (fun s r hb kl kr => ?_) e_171
    exact W_X6_begins_L83 (o0 := o0) (a0 := a0) htr hb (fun z0 z1 e => kl _ e) (fun y0 e => by cases kr _ e; exact H_173)
  refine zloop_ind (P := fun s : Int32 × zId => zW l G MX6_begins 3 64 0 0 17 [(0, .ref o0), (1, .ref a0), (2, .int s.1)] [] K F s.2 L (zQe (.inl none) K F r L)) (fun s r hb kl kr => ?_) e_174
  exact W_X6_begins_L17 (o0 := o0) (a0 := a0) htr hb (fun z0 z1 e => kl _ e) (fun y0 e => by cases kr _ e; exact H_176)
theorem fX2_9_1 : zFld RX2 9 1 0 := ⟨_, rfl, by decide, _, Or.inl q522, Or.inl rfl⟩
theorem fX2_15_1 : zFld RX2 15 1 1 := ⟨_, rfl, by decide, _, Or.inl q526, Or.inl rfl⟩
theorem fX2_18_1 : zFld RX2 18 1 2 := ⟨_, rfl, by decide, _, Or.inl q530, Or.inl rfl⟩
theorem fX2_30_1 : zFld RX2 30 1 5 := ⟨_, rfl, by decide, _, Or.inl q540, Or.inl rfl⟩
theorem fX2_33_1 : zFld RX2 33 1 6 := ⟨_, rfl, by decide, _, Or.inl q544, Or.inl rfl⟩
theorem fX2_46_1 : zFld RX2 46 1 10 := ⟨_, rfl, by decide, _, Or.inl q552, Or.inl rfl⟩
theorem hcee_J2_init : zCee yJ2_init RJ2 1 := ⟨rfl, by decide +kernel, by decide +kernel, by decide +kernel⟩
theorem hcee_X3_init : zCee yX3_init RX3 0 := ⟨rfl, by decide +kernel, by decide +kernel, by decide +kernel⟩
abbrev MX2_init : zM := (RX2, cX2_init, 1, none, "<init>", [])
noncomputable def F_X2_init (o0 : Nat) (h : zSt) : Option ((Nat × Nat) × (zSt)) := zka (hK h) o0 1 (fun n_1 => zg (decide (600 ≤ o0)) (zlet (zsI h (zu (hI h) o0 0 2)) (fun h_4 => zka (hK h_4) o0 1 (fun n_6 => zlet (zsI h_4 (zu (hI h_4) o0 1 3)) (fun h_8 => zka (hK h_8) o0 1 (fun n_10 => zlet (zsI h_8 (zu (hI h_8) o0 2 20)) (fun h_12 => zpay (1, 3) (zg (zfree h_12) (zlet (hN h_12) (fun o_17 => zlet (znA h_12 2 0) (fun h_15 => zc1 (F_J2_init o_17 1 h_15) (fun c_21 h_20 => zpay c_21 (zka (hK h_20) o0 1 (fun n_22 => zlet (zsF h_20 (zu (jF h_20) o0 4 (some o_17))) (fun h_24 => zpay (1, 3) (zg (zfree h_24) (zlet (hN h_24) (fun o_29 => zlet (znA h_24 2 0) (fun h_27 => zc1 (F_J2_init o_29 1 h_27) (fun c_33 h_32 => zpay c_33 (zka (hK h_32) o0 1 (fun n_34 => zlet (zsF h_32 (zu (jF h_32) o0 5 (some o_29))) (fun h_36 => zpay (1, 3) (zg (zfree h_36) (zlet (hN h_36) (fun o_41 => zlet (znA h_36 2 0) (fun h_39 => zc1 (F_J2_init o_41 1 h_39) (fun c_45 h_44 => zpay c_45 (zka (hK h_44) o0 1 (fun n_46 => zlet (zsF h_44 (zu (jF h_44) o0 6 (some o_41))) (fun h_48 => zpay (1, 64) (zg (zfree h_48) (zlet (hN h_48) (fun o_53 => zlet (znA h_48 64 64) (fun h_51 => zka (hK h_51) o0 1 (fun n_55 => zlet (zsF h_51 (zu (jF h_51) o0 7 (some o_53))) (fun h_57 => zpay (1, 64) (zg (zfree h_57) (zlet (hN h_57) (fun o_62 => zlet (znA h_57 64 64) (fun h_60 => zka (hK h_60) o0 1 (fun n_64 => zlet (zsF h_60 (zu (jF h_60) o0 8 (some o_62))) (fun h_66 => zpay (1, 1) (zg (zfree h_66) (zlet (hN h_66) (fun o_71 => zlet (znA h_66 3 0) (fun h_69 => zc1 (F_X3_init o_71 h_69) (fun c_75 h_74 => zpay c_75 (zka (hK h_74) o0 1 (fun n_76 => zlet (zsF h_74 (zu (jF h_74) o0 10 (some o_71))) (fun h_78 => some ((0, 0), h_78))))))))))))))))))))))))))))))))))))))))))))))))))))
set_option maxHeartbeats 1000000 in
theorem C_X2_init {l : Launch} {G : zGt} (htr : l.stackTraces = false) {o0 : Nat} {h : zSt} {cc : Nat × Nat} {r : zSt} (hF : F_X2_init o0 h = some (cc, r)) : zMet l G yX2_init (ws_ yX2_init cX2_init 1 none) 4 85 (cc.1 + 0) (cc.2 + 0) [.ref o0] (hK h) (jF h) (hI h) (hL h) (zQe (.inl none) (hK r) (jF r) (hI r) (hL r)) := by
  refine zMet.of (by decide +kernel) htr (Nat.le_of_ble_eq_true rfl) ?_
  change zW l G MX2_init 4 85 (cc.1 + 0) (cc.2 + 0) 0 [(0, .ref o0)] [] (hK h) (jF h) (hI h) (hL h) (zQe (.inl none) (hK r) (jF r) (hI r) (hL r))
  unfold F_X2_init at hF
  refine z_aload_n (n := 1) dX2_init_0 rfl 0 rfl rfl ?_
  refine z_objInit (n := 4) dX2_init_1 rfl q158 q151 q152 (by decide) (Nat.le_of_ble_eq_true rfl) ?_
  refine z_aload_n (n := 5) dX2_init_4 rfl 0 rfl rfl ?_
  refine z_iconst (n := 6) (v := 2) dX2_init_5 rfl (by decide) ?_
  obtain ⟨n_1, hk_2, hF⟩ := zka_some hF
  obtain ⟨hb_3, hF⟩ := zg_some hF
  obtain ⟨h_4, e_5, hF⟩ := zlet_ob hF
  refine z_putIE (n := 9) dX2_init_6 rfl zok1 fX2_9_1 (Or.inl ⟨_, rfl, rfl⟩) rfl ⟨rfl, rfl⟩ hk_2 (zbig hb_3) rfl ?_
  refine z_toI e_5 ?_
  refine z_aload_n (n := 10) dX2_init_9 rfl 0 rfl rfl ?_
  refine z_iconst (n := 11) (v := 3) dX2_init_10 rfl (by decide) ?_
  obtain ⟨n_6, hk_7, hF⟩ := zka_some hF
  obtain ⟨h_8, e_9, hF⟩ := zlet_ob hF
  refine z_putIE (n := 14) dX2_init_11 rfl zok1 fX2_15_1 (Or.inl ⟨_, rfl, rfl⟩) rfl ⟨rfl, rfl⟩ hk_7 (zbig hb_3) rfl ?_
  refine z_toI e_9 ?_
  refine z_aload_n (n := 15) dX2_init_14 rfl 0 rfl rfl ?_
  refine z_bipush (n := 17) (v := 20) dX2_init_15 rfl (by decide) ?_
  obtain ⟨n_10, hk_11, hF⟩ := zka_some hF
  obtain ⟨h_12, e_13, hF⟩ := zlet_ob hF
  refine z_putIE (n := 20) dX2_init_17 rfl zok1 fX2_18_1 (Or.inl ⟨_, rfl, rfl⟩) rfl ⟨rfl, rfl⟩ hk_11 (zbig hb_3) rfl ?_
  refine z_toI e_13 ?_
  refine z_aload_n (n := 21) dX2_init_20 rfl 0 rfl rfl ?_
  obtain ⟨cc, hF, hcc⟩ := zpay_some hF
  refine z_payE hcc ?_
  obtain ⟨hn_14, hF⟩ := zg_some hF
  obtain ⟨o_17, e_18, hF⟩ := zlet_ob hF
  obtain ⟨h_15, e_16, hF⟩ := zlet_ob hF
  refine z_newT (n := 24) dX2_init_21 rfl zok2 ⟨_, rfl, rfl, q160⟩ q159 q109 hn_14 e_18 e_16 rfl ?_
  refine z_dup (n := 25) dX2_init_24 rfl rfl ?_
  refine z_iconst (n := 26) (v := 1) dX2_init_25 rfl (by decide) ?_
  obtain ⟨c_21, h_20, c_19, hF⟩ := zc1_some hF
  obtain ⟨cc, hF, hcc⟩ := zpay_some hF
  refine z_payE hcc ?_
  refine z_cI (n := 29) (mc2 := (cc.1 + 0)) (ms2 := (cc.2 + 0)) (st := [.ref o_17, .ref o0]) (C_J2_init htr c_19) dX2_init_26 rfl q163 q109 q161 q162 rfl hcee_J2_init rfl (by decide) rfl (Nat.le_of_ble_eq_true rfl) (Nat.le_of_eq (Nat.add_comm _ _)) (Nat.le_of_eq (Nat.add_comm _ _)) ?_
  obtain ⟨n_22, hk_23, hF⟩ := zka_some hF
  obtain ⟨h_24, e_25, hF⟩ := zlet_ob hF
  refine z_putR (r := (some o_17)) (n := 32) dX2_init_29 rfl zok1 fX2_26_1 (Or.inr ⟨rfl, _, rfl, rfl, rfl⟩) rfl hk_23 (zbig hb_3) ?_
  refine z_toF e_25 ?_
  refine z_aload_n (n := 33) dX2_init_32 rfl 0 rfl rfl ?_
  obtain ⟨cc, hF, hcc⟩ := zpay_some hF
  refine z_payE hcc ?_
  obtain ⟨hn_26, hF⟩ := zg_some hF
  obtain ⟨o_29, e_30, hF⟩ := zlet_ob hF
  obtain ⟨h_27, e_28, hF⟩ := zlet_ob hF
  refine z_newT (n := 36) dX2_init_33 rfl zok2 ⟨_, rfl, rfl, q160⟩ q159 q109 hn_26 e_30 e_28 rfl ?_
  refine z_dup (n := 37) dX2_init_36 rfl rfl ?_
  refine z_iconst (n := 38) (v := 1) dX2_init_37 rfl (by decide) ?_
  obtain ⟨c_33, h_32, c_31, hF⟩ := zc1_some hF
  obtain ⟨cc, hF, hcc⟩ := zpay_some hF
  refine z_payE hcc ?_
  refine z_cI (n := 41) (mc2 := (cc.1 + 0)) (ms2 := (cc.2 + 0)) (st := [.ref o_29, .ref o0]) (C_J2_init htr c_31) dX2_init_38 rfl q163 q109 q161 q162 rfl hcee_J2_init rfl (by decide) rfl (Nat.le_of_ble_eq_true rfl) (Nat.le_of_eq (Nat.add_comm _ _)) (Nat.le_of_eq (Nat.add_comm _ _)) ?_
  obtain ⟨n_34, hk_35, hF⟩ := zka_some hF
  obtain ⟨h_36, e_37, hF⟩ := zlet_ob hF
  refine z_putR (r := (some o_29)) (n := 44) dX2_init_41 rfl zok1 fX2_30_1 (Or.inr ⟨rfl, _, rfl, rfl, rfl⟩) rfl hk_35 (zbig hb_3) ?_
  refine z_toF e_37 ?_
  refine z_aload_n (n := 45) dX2_init_44 rfl 0 rfl rfl ?_
  obtain ⟨cc, hF, hcc⟩ := zpay_some hF
  refine z_payE hcc ?_
  obtain ⟨hn_38, hF⟩ := zg_some hF
  obtain ⟨o_41, e_42, hF⟩ := zlet_ob hF
  obtain ⟨h_39, e_40, hF⟩ := zlet_ob hF
  refine z_newT (n := 48) dX2_init_45 rfl zok2 ⟨_, rfl, rfl, q160⟩ q159 q109 hn_38 e_42 e_40 rfl ?_
  refine z_dup (n := 49) dX2_init_48 rfl rfl ?_
  refine z_iconst (n := 50) (v := 1) dX2_init_49 rfl (by decide) ?_
  obtain ⟨c_45, h_44, c_43, hF⟩ := zc1_some hF
  obtain ⟨cc, hF, hcc⟩ := zpay_some hF
  refine z_payE hcc ?_
  refine z_cI (n := 53) (mc2 := (cc.1 + 0)) (ms2 := (cc.2 + 0)) (st := [.ref o_41, .ref o0]) (C_J2_init htr c_43) dX2_init_50 rfl q163 q109 q161 q162 rfl hcee_J2_init rfl (by decide) rfl (Nat.le_of_ble_eq_true rfl) (Nat.le_of_eq (Nat.add_comm _ _)) (Nat.le_of_eq (Nat.add_comm _ _)) ?_
  obtain ⟨n_46, hk_47, hF⟩ := zka_some hF
  obtain ⟨h_48, e_49, hF⟩ := zlet_ob hF
  refine z_putR (r := (some o_41)) (n := 56) dX2_init_53 rfl zok1 fX2_33_1 (Or.inr ⟨rfl, _, rfl, rfl, rfl⟩) rfl hk_47 (zbig hb_3) ?_
  refine z_toF e_49 ?_
  refine z_aload_n (n := 57) dX2_init_56 rfl 0 rfl rfl ?_
  refine z_bipush (n := 59) (v := 64) dX2_init_57 rfl (by decide) ?_
  obtain ⟨cc, hF, hcc⟩ := zpay_some hF
  refine z_payE hcc ?_
  obtain ⟨hn_50, hF⟩ := zg_some hF
  obtain ⟨o_53, e_54, hF⟩ := zlet_ob hF
  obtain ⟨h_51, e_52, hF⟩ := zlet_ob hF
  refine z_newaT (t := 0) (n := 61) .int dX2_init_59 rfl rfl (by decide) q521 (by decide) (by decide) (by decide) hn_50 e_54 e_52 ?_
  obtain ⟨n_55, hk_56, hF⟩ := zka_some hF
  obtain ⟨h_57, e_58, hF⟩ := zlet_ob hF
  refine z_putR (r := (some o_53)) (n := 64) dX2_init_61 rfl zok1 fX2_36_1 (Or.inr ⟨rfl, _, rfl, rfl, rfl⟩) rfl hk_56 (zbig hb_3) ?_
  refine z_toF e_58 ?_
  refine z_aload_n (n := 65) dX2_init_64 rfl 0 rfl rfl ?_
  refine z_bipush (n := 67) (v := 64) dX2_init_65 rfl (by decide) ?_
  obtain ⟨cc, hF, hcc⟩ := zpay_some hF
  refine z_payE hcc ?_
  obtain ⟨hn_59, hF⟩ := zg_some hF
  obtain ⟨o_62, e_63, hF⟩ := zlet_ob hF
  obtain ⟨h_60, e_61, hF⟩ := zlet_ob hF
  refine z_newaT (t := 0) (n := 69) .int dX2_init_67 rfl rfl (by decide) q521 (by decide) (by decide) (by decide) hn_59 e_63 e_61 ?_
  obtain ⟨n_64, hk_65, hF⟩ := zka_some hF
  obtain ⟨h_66, e_67, hF⟩ := zlet_ob hF
  refine z_putR (r := (some o_62)) (n := 72) dX2_init_69 rfl zok1 fX2_40_1 (Or.inr ⟨rfl, _, rfl, rfl, rfl⟩) rfl hk_65 (zbig hb_3) ?_
  refine z_toF e_67 ?_
  refine z_aload_n (n := 73) dX2_init_72 rfl 0 rfl rfl ?_
  obtain ⟨cc, hF, hcc⟩ := zpay_some hF
  refine z_payE hcc ?_
  obtain ⟨hn_68, hF⟩ := zg_some hF
  obtain ⟨o_71, e_72, hF⟩ := zlet_ob hF
  obtain ⟨h_69, e_70, hF⟩ := zlet_ob hF
  refine z_newT (n := 76) dX2_init_73 rfl zok3 ⟨_, rfl, rfl, q500⟩ q499 q126 hn_68 e_72 e_70 rfl ?_
  refine z_dup (n := 77) dX2_init_76 rfl rfl ?_
  obtain ⟨c_75, h_74, c_73, hF⟩ := zc1_some hF
  obtain ⟨cc, hF, hcc⟩ := zpay_some hF
  refine z_payE hcc ?_
  refine z_cIN (n := 80) (mc2 := (cc.1 + 0)) (ms2 := (cc.2 + 0)) (st := [.ref o_71, .ref o0]) (C_X3_init htr c_73) dX2_init_77 rfl q503 q126 q501 q502 rfl hcee_X3_init rfl (by decide) rfl (Nat.le_of_ble_eq_true rfl) (Nat.le_of_eq (Nat.add_comm _ _)) (Nat.le_of_eq (Nat.add_comm _ _)) ?_
  obtain ⟨n_76, hk_77, hF⟩ := zka_some hF
  obtain ⟨h_78, e_79, hF⟩ := zlet_ob hF
  refine z_putR (r := (some o_71)) (n := 83) dX2_init_80 rfl zok1 fX2_46_1 (Or.inr ⟨rfl, _, rfl, rfl, rfl⟩) rfl hk_77 (zbig hb_3) ?_
  refine z_toF e_79 ?_
  obtain ⟨rfl, rfl⟩ := zpair hF
  exact z_vret dX2_init_83 rfl ⟨rfl, rfl, rfl, rfl, rfl⟩
abbrev MX6_init : zM := (RX6, cX6_init, 1, none, "<init>", [])
noncomputable def F_X6_init (o0 : Nat) (h : zSt) : Option ((Nat × Nat) × (zSt)) := zpay (1, 8) (zg (zfree h) (zlet (hN h) (fun o_4 => zlet (znA h 64 8) (fun h_2 => zka (hK h_2) o0 5 (fun n_6 => zg (decide (600 ≤ o0)) (zlet (zsF h_2 (zu (jF h_2) o0 0 (some o_4))) (fun h_9 => zpay (1, 8) (zg (zfree h_9) (zlet (hN h_9) (fun o_14 => zlet (znA h_9 64 8) (fun h_12 => zka (hK h_12) o0 5 (fun n_16 => zlet (zsF h_12 (zu (jF h_12) o0 1 (some o_14))) (fun h_18 => zpay (1, 8) (zg (zfree h_18) (zlet (hN h_18) (fun o_23 => zlet (znA h_18 64 8) (fun h_21 => zka (hK h_21) o0 5 (fun n_25 => zlet (zsF h_21 (zu (jF h_21) o0 2 (some o_23))) (fun h_27 => zpay (1, 6) (zg (zfree h_27) (zlet (hN h_27) (fun o_32 => zlet (znA h_27 64 6) (fun h_30 => zka (hK h_30) o0 5 (fun n_34 => zlet (zsF h_30 (zu (jF h_30) o0 3 (some o_32))) (fun h_36 => zpay (1, 6) (zg (zfree h_36) (zlet (hN h_36) (fun o_41 => zlet (znA h_36 64 6) (fun h_39 => zka (hK h_39) o0 5 (fun n_43 => zlet (zsF h_39 (zu (jF h_39) o0 4 (some o_41))) (fun h_45 => zpay (1, 6) (zg (zfree h_45) (zlet (hN h_45) (fun o_50 => zlet (znA h_45 64 6) (fun h_48 => zka (hK h_48) o0 5 (fun n_52 => zlet (zsF h_48 (zu (jF h_48) o0 5 (some o_50))) (fun h_54 => zpay (1, 6) (zg (zfree h_54) (zlet (hN h_54) (fun o_59 => zlet (znA h_54 64 6) (fun h_57 => zka (hK h_57) o0 5 (fun n_61 => zlet (zsF h_57 (zu (jF h_57) o0 6 (some o_59))) (fun h_63 => zpay (1, 6) (zg (zfree h_63) (zlet (hN h_63) (fun o_68 => zlet (znA h_63 64 6) (fun h_66 => zka (hK h_66) o0 5 (fun n_70 => zlet (zsF h_66 (zu (jF h_66) o0 7 (some o_68))) (fun h_72 => zpay (1, 6) (zg (zfree h_72) (zlet (hN h_72) (fun o_77 => zlet (znA h_72 64 6) (fun h_75 => zka (hK h_75) o0 5 (fun n_79 => zlet (zsF h_75 (zu (jF h_75) o0 8 (some o_77))) (fun h_81 => some ((0, 0), h_81))))))))))))))))))))))))))))))))))))))))))))))))))))))))
set_option maxHeartbeats 1000000 in
theorem C_X6_init {l : Launch} {G : zGt} (htr : l.stackTraces = false) {o0 : Nat} {h : zSt} {cc : Nat × Nat} {r : zSt} (hF : F_X6_init o0 h = some (cc, r)) : zMet l G yX6_init (ws_ yX6_init cX6_init 1 none) 1 24 (cc.1 + 0) (cc.2 + 0) [.ref o0] (hK h) (jF h) (hI h) (hL h) (zQe (.inl none) (hK r) (jF r) (hI r) (hL r)) := by
  refine zMet.of (by decide +kernel) htr (Nat.le_of_ble_eq_true rfl) ?_
  change zW l G MX6_init 1 24 (cc.1 + 0) (cc.2 + 0) 0 [(0, .ref o0)] [] (hK h) (jF h) (hI h) (hL h) (zQe (.inl none) (hK r) (jF r) (hI r) (hL r))
  unfold F_X6_init at hF
  refine z_aload_n (n := 1) dX6_init_0 rfl 0 rfl rfl ?_
  refine z_objInit (n := 4) dX6_init_1 rfl q588 q151 q152 (by decide) (Nat.le_of_ble_eq_true rfl) ?_
  refine z_aload_n (n := 5) dX6_init_4 rfl 0 rfl rfl ?_
  refine z_bipush (n := 7) (v := 8) dX6_init_5 rfl (by decide) ?_
  obtain ⟨cc, hF, hcc⟩ := zpay_some hF
  refine z_payE hcc ?_
  obtain ⟨hn_1, hF⟩ := zg_some hF
  obtain ⟨o_4, e_5, hF⟩ := zlet_ob hF
  obtain ⟨h_2, e_3, hF⟩ := zlet_ob hF
  refine z_newaT (t := 0) (n := 9) .int dX6_init_7 rfl rfl (by decide) q521 (by decide) (by decide) (by decide) hn_1 e_5 e_3 ?_
  obtain ⟨n_6, hk_7, hF⟩ := zka_some hF
  obtain ⟨hb_8, hF⟩ := zg_some hF
  obtain ⟨h_9, e_10, hF⟩ := zlet_ob hF
  refine z_putR (r := (some o_4)) (n := 12) dX6_init_9 rfl zok5 fX6_9_5 (Or.inr ⟨rfl, _, rfl, rfl, rfl⟩) rfl hk_7 (zbig hb_8) ?_
  refine z_toF e_10 ?_
  refine z_aload_n (n := 13) dX6_init_12 rfl 0 rfl rfl ?_
  refine z_bipush (n := 15) (v := 8) dX6_init_13 rfl (by decide) ?_
  obtain ⟨cc, hF, hcc⟩ := zpay_some hF
  refine z_payE hcc ?_
  obtain ⟨hn_11, hF⟩ := zg_some hF
  obtain ⟨o_14, e_15, hF⟩ := zlet_ob hF
  obtain ⟨h_12, e_13, hF⟩ := zlet_ob hF
  refine z_newaT (t := 0) (n := 17) .int dX6_init_15 rfl rfl (by decide) q521 (by decide) (by decide) (by decide) hn_11 e_15 e_13 ?_
  obtain ⟨n_16, hk_17, hF⟩ := zka_some hF
  obtain ⟨h_18, e_19, hF⟩ := zlet_ob hF
  refine z_putR (r := (some o_14)) (n := 20) dX6_init_17 rfl zok5 fX6_15_5 (Or.inr ⟨rfl, _, rfl, rfl, rfl⟩) rfl hk_17 (zbig hb_8) ?_
  refine z_toF e_19 ?_
  refine z_aload_n (n := 21) dX6_init_20 rfl 0 rfl rfl ?_
  refine z_bipush (n := 23) (v := 8) dX6_init_21 rfl (by decide) ?_
  obtain ⟨cc, hF, hcc⟩ := zpay_some hF
  refine z_payE hcc ?_
  obtain ⟨hn_20, hF⟩ := zg_some hF
  obtain ⟨o_23, e_24, hF⟩ := zlet_ob hF
  obtain ⟨h_21, e_22, hF⟩ := zlet_ob hF
  refine z_newaT (t := 0) (n := 25) .int dX6_init_23 rfl rfl (by decide) q521 (by decide) (by decide) (by decide) hn_20 e_24 e_22 ?_
  obtain ⟨n_25, hk_26, hF⟩ := zka_some hF
  obtain ⟨h_27, e_28, hF⟩ := zlet_ob hF
  refine z_putR (r := (some o_23)) (n := 28) dX6_init_25 rfl zok5 fX6_18_5 (Or.inr ⟨rfl, _, rfl, rfl, rfl⟩) rfl hk_26 (zbig hb_8) ?_
  refine z_toF e_28 ?_
  refine z_aload_n (n := 29) dX6_init_28 rfl 0 rfl rfl ?_
  refine z_bipush (n := 31) (v := 6) dX6_init_29 rfl (by decide) ?_
  obtain ⟨cc, hF, hcc⟩ := zpay_some hF
  refine z_payE hcc ?_
  obtain ⟨hn_29, hF⟩ := zg_some hF
  obtain ⟨o_32, e_33, hF⟩ := zlet_ob hF
  obtain ⟨h_30, e_31, hF⟩ := zlet_ob hF
  refine z_newaT (t := 0) (n := 33) .int dX6_init_31 rfl rfl (by decide) q521 (by decide) (by decide) (by decide) hn_29 e_33 e_31 ?_
  obtain ⟨n_34, hk_35, hF⟩ := zka_some hF
  obtain ⟨h_36, e_37, hF⟩ := zlet_ob hF
  refine z_putR (r := (some o_32)) (n := 36) dX6_init_33 rfl zok5 fX6_21_5 (Or.inr ⟨rfl, _, rfl, rfl, rfl⟩) rfl hk_35 (zbig hb_8) ?_
  refine z_toF e_37 ?_
  refine z_aload_n (n := 37) dX6_init_36 rfl 0 rfl rfl ?_
  refine z_bipush (n := 39) (v := 6) dX6_init_37 rfl (by decide) ?_
  obtain ⟨cc, hF, hcc⟩ := zpay_some hF
  refine z_payE hcc ?_
  obtain ⟨hn_38, hF⟩ := zg_some hF
  obtain ⟨o_41, e_42, hF⟩ := zlet_ob hF
  obtain ⟨h_39, e_40, hF⟩ := zlet_ob hF
  refine z_newaT (t := 0) (n := 41) .int dX6_init_39 rfl rfl (by decide) q521 (by decide) (by decide) (by decide) hn_38 e_42 e_40 ?_
  obtain ⟨n_43, hk_44, hF⟩ := zka_some hF
  obtain ⟨h_45, e_46, hF⟩ := zlet_ob hF
  refine z_putR (r := (some o_41)) (n := 44) dX6_init_41 rfl zok5 fX6_24_5 (Or.inr ⟨rfl, _, rfl, rfl, rfl⟩) rfl hk_44 (zbig hb_8) ?_
  refine z_toF e_46 ?_
  refine z_aload_n (n := 45) dX6_init_44 rfl 0 rfl rfl ?_
  refine z_bipush (n := 47) (v := 6) dX6_init_45 rfl (by decide) ?_
  obtain ⟨cc, hF, hcc⟩ := zpay_some hF
  refine z_payE hcc ?_
  obtain ⟨hn_47, hF⟩ := zg_some hF
  obtain ⟨o_50, e_51, hF⟩ := zlet_ob hF
  obtain ⟨h_48, e_49, hF⟩ := zlet_ob hF
  refine z_newaT (t := 0) (n := 49) .int dX6_init_47 rfl rfl (by decide) q521 (by decide) (by decide) (by decide) hn_47 e_51 e_49 ?_
  obtain ⟨n_52, hk_53, hF⟩ := zka_some hF
  obtain ⟨h_54, e_55, hF⟩ := zlet_ob hF
  refine z_putR (r := (some o_50)) (n := 52) dX6_init_49 rfl zok5 fX6_27_5 (Or.inr ⟨rfl, _, rfl, rfl, rfl⟩) rfl hk_53 (zbig hb_8) ?_
  refine z_toF e_55 ?_
  refine z_aload_n (n := 53) dX6_init_52 rfl 0 rfl rfl ?_
  refine z_bipush (n := 55) (v := 6) dX6_init_53 rfl (by decide) ?_
  obtain ⟨cc, hF, hcc⟩ := zpay_some hF
  refine z_payE hcc ?_
  obtain ⟨hn_56, hF⟩ := zg_some hF
  obtain ⟨o_59, e_60, hF⟩ := zlet_ob hF
  obtain ⟨h_57, e_58, hF⟩ := zlet_ob hF
  refine z_newaT (t := 0) (n := 57) .int dX6_init_55 rfl rfl (by decide) q521 (by decide) (by decide) (by decide) hn_56 e_60 e_58 ?_
  obtain ⟨n_61, hk_62, hF⟩ := zka_some hF
  obtain ⟨h_63, e_64, hF⟩ := zlet_ob hF
  refine z_putR (r := (some o_59)) (n := 60) dX6_init_57 rfl zok5 fX6_30_5 (Or.inr ⟨rfl, _, rfl, rfl, rfl⟩) rfl hk_62 (zbig hb_8) ?_
  refine z_toF e_64 ?_
  refine z_aload_n (n := 61) dX6_init_60 rfl 0 rfl rfl ?_
  refine z_bipush (n := 63) (v := 6) dX6_init_61 rfl (by decide) ?_
  obtain ⟨cc, hF, hcc⟩ := zpay_some hF
  refine z_payE hcc ?_
  obtain ⟨hn_65, hF⟩ := zg_some hF
  obtain ⟨o_68, e_69, hF⟩ := zlet_ob hF
  obtain ⟨h_66, e_67, hF⟩ := zlet_ob hF
  refine z_newaT (t := 0) (n := 65) .int dX6_init_63 rfl rfl (by decide) q521 (by decide) (by decide) (by decide) hn_65 e_69 e_67 ?_
  obtain ⟨n_70, hk_71, hF⟩ := zka_some hF
  obtain ⟨h_72, e_73, hF⟩ := zlet_ob hF
  refine z_putR (r := (some o_68)) (n := 68) dX6_init_65 rfl zok5 fX6_33_5 (Or.inr ⟨rfl, _, rfl, rfl, rfl⟩) rfl hk_71 (zbig hb_8) ?_
  refine z_toF e_73 ?_
  refine z_aload_n (n := 69) dX6_init_68 rfl 0 rfl rfl ?_
  refine z_bipush (n := 71) (v := 6) dX6_init_69 rfl (by decide) ?_
  obtain ⟨cc, hF, hcc⟩ := zpay_some hF
  refine z_payE hcc ?_
  obtain ⟨hn_74, hF⟩ := zg_some hF
  obtain ⟨o_77, e_78, hF⟩ := zlet_ob hF
  obtain ⟨h_75, e_76, hF⟩ := zlet_ob hF
  refine z_newaT (t := 0) (n := 73) .int dX6_init_71 rfl rfl (by decide) q521 (by decide) (by decide) (by decide) hn_74 e_78 e_76 ?_
  obtain ⟨n_79, hk_80, hF⟩ := zka_some hF
  obtain ⟨h_81, e_82, hF⟩ := zlet_ob hF
  refine z_putR (r := (some o_77)) (n := 76) dX6_init_73 rfl zok5 fX6_36_5 (Or.inr ⟨rfl, _, rfl, rfl, rfl⟩) rfl hk_80 (zbig hb_8) ?_
  refine z_toF e_82 ?_
  obtain ⟨rfl, rfl⟩ := zpair hF
  exact z_vret dX6_init_76 rfl ⟨rfl, rfl, rfl, rfl, rfl⟩
theorem fX5_12_4 : zFld RX5 12 4 0 := ⟨_, rfl, by decide, _, Or.inl q698, Or.inl rfl⟩
theorem fX5_23_4 : zFld RX5 23 4 1 := ⟨_, rfl, by decide, _, Or.inl q700, Or.inl rfl⟩
theorem fX5_27_4 : zFld RX5 27 4 2 := ⟨_, rfl, by decide, _, Or.inl q702, Or.inl rfl⟩
theorem fX5_31_4 : zFld RX5 31 4 3 := ⟨_, rfl, by decide, _, Or.inl q704, Or.inl rfl⟩
theorem fX5_34_4 : zFld RX5 34 4 4 := ⟨_, rfl, by decide, _, Or.inl q706, Or.inl rfl⟩
theorem fX5_37_4 : zFld RX5 37 4 5 := ⟨_, rfl, by decide, _, Or.inl q708, Or.inl rfl⟩
theorem hcee_J2_add : zCee yJ2_add RJ2 1 := ⟨rfl, by decide +kernel, by decide +kernel, by decide +kernel⟩
theorem hcee_X6_init : zCee yX6_init RX6 0 := ⟨rfl, by decide +kernel, by decide +kernel, by decide +kernel⟩
abbrev MX5_init : zM := (RX5, cX5_init, 2, none, "<init>", [])
noncomputable def F_X5_init_L61 (o0 : Nat) (v1_62 : Int32) (h_63 : zSt) : Option ((Nat × Nat) × ((Int32 × zSt) ⊕ (zSt))) := if 40 ≤ v1_62 then some ((0, 0), .inr (h_63)) else zka (hK h_63) o0 4 (fun n_64 => zg (decide (600 ≤ o0)) (zb1 ((jF h_63) o0 1) (fun o_67 => zpay (1, 13) (zg (zfree h_63) (zlet (hN h_63) (fun o_72 => zlet (znA h_63 5 0) (fun h_70 => zc1 (F_X6_init o_72 h_70) (fun c_76 h_75 => zpay c_76 (zka (hK h_75) o_67 2 (fun n_77 => zc1 (F_J2_add o_67 o_72 h_75) (fun c_82 => zn2 (fun x_80 h_81 => zpay c_82 (zlet (v1_62 + 1) (fun v1_84 => some ((0, 0), .inl (v1_84, h_81))))))))))))))))
noncomputable def F_X5_init (o0 : Nat) (h : zSt) : Option ((Nat × Nat) × (zSt)) := zpay (1, 13) (zg (zfree h) (zlet (hN h) (fun o_4 => zlet (znA h 5 0) (fun h_2 => zc1 (F_X6_init o_4 h_2) (fun c_8 h_7 => zpay c_8 (zka (hK h_7) o0 4 (fun n_9 => zg (decide (600 ≤ o0)) (zlet (zsF h_7 (zu (jF h_7) o0 0 (some o_4))) (fun h_12 => zpay (1, 3) (zg (zfree h_12) (zlet (hN h_12) (fun o_17 => zlet (znA h_12 2 0) (fun h_15 => zc1 (F_J2_init o_17 40 h_15) (fun c_21 h_20 => zpay c_21 (zka (hK h_20) o0 4 (fun n_22 => zlet (zsF h_20 (zu (jF h_20) o0 1 (some o_17))) (fun h_24 => zpay (1, 8) (zg (zfree h_24) (zlet (hN h_24) (fun o_29 => zlet (znA h_24 64 8) (fun h_27 => zka (hK h_27) o0 4 (fun n_31 => zlet (zsF h_27 (zu (jF h_27) o0 2 (some o_29))) (fun h_33 => zpay (1, 8) (zg (zfree h_33) (zlet (hN h_33) (fun o_38 => zlet (znA h_33 64 8) (fun h_36 => zka (hK h_36) o0 4 (fun n_40 => zlet (zsF h_36 (zu (jF h_36) o0 3 (some o_38))) (fun h_42 => zpay (1, 8) (zg (zfree h_42) (zlet (hN h_42) (fun o_47 => zlet (znA h_42 64 8) (fun h_45 => zka (hK h_45) o0 4 (fun n_49 => zlet (zsF h_45 (zu (jF h_45) o0 4 (some o_47))) (fun h_51 => zpay (1, 3) (zg (zfree h_51) (zlet (hN h_51) (fun o_56 => zlet (znA h_51 64 3) (fun h_54 => zka (hK h_54) o0 4 (fun n_58 => zlet (zsF h_54 (zu (jF h_54) o0 5 (some o_56))) (fun h_60 => zc1 (zloopC (fun s : Int32 × zSt => F_X5_init_L61 o0 s.1 s.2) (0, h_60)) (fun c_88 t_89 => zpay c_88 ((fun h_86 => some ((0, 0), h_86)) t_89)))))))))))))))))))))))))))))))))))))))))))
set_option maxHeartbeats 1000000 in
theorem W_X5_init_L61 {l : Launch} {G : zGt} (htr : l.stackTraces = false) {Q : zQt} {mE wE : Nat} {cc : Nat × Nat} {o0 : Nat} {v1_62 : Int32} {h_63 : zSt} {r : (Int32 × zSt) ⊕ (zSt)} (hF : F_X5_init_L61 o0 v1_62 h_63 = some (cc, r)) (kl : ∀ (z0 : Int32) (z1 : zSt), r = .inl (z0, z1) → zW l G MX5_init 7 191 mE wE 61 [(0, .ref o0), (1, .int z0)] [] (hK z1) (jF z1) (hI z1) (hL z1) Q) (kx : ∀ (y0 : zSt), r = .inr y0 → zW l G MX5_init 7 191 mE wE 88 [] [] (hK y0) (jF y0) (hI y0) (hL y0) Q)  : zW l G MX5_init 7 191 (cc.1 + mE) (cc.2 + wE) 61 [(0, .ref o0), (1, .int v1_62)] [] (hK h_63) (jF h_63) (hI h_63) (hL h_63) Q := by
  unfold F_X5_init_L61 at hF
  refine z_iload_n (n := 62) dX5_init_61 rfl 1 rfl rfl ?_
  refine z_bipush (n := 64) (v := 40) dX5_init_62 rfl (by decide) ?_
  refine z_icmp_ge (n := 67) (t := 88) dX5_init_64 rfl (by decide) (fun hc => ?_) (fun hc => ?_)
  · replace hF := (if_pos hc).symm.trans hF
    refine z_sub [] rfl ?_
    obtain ⟨rfl, rfl⟩ := zpair hF
    refine z_eq (Nat.zero_add _) (Nat.zero_add _) ?_
    exact kx h_63 rfl
  · replace hF := (if_neg hc).symm.trans hF
    refine z_aload_n (n := 68) dX5_init_67 rfl 0 rfl rfl ?_
    obtain ⟨n_64, hk_65, hF⟩ := zka_some hF
    obtain ⟨hb_66, hF⟩ := zg_some hF
    obtain ⟨o_67, hr_68, hF⟩ := zb1_some hF
    refine z_getRS (n := 71) dX5_init_68 rfl zok4 fX5_23_4 rfl hk_65 (Or.inl (zbig hb_66)) hr_68 ?_
    obtain ⟨cc, hF, hcc⟩ := zpay_some hF
    refine z_payE hcc ?_
    obtain ⟨hn_69, hF⟩ := zg_some hF
    obtain ⟨o_72, e_73, hF⟩ := zlet_ob hF
    obtain ⟨h_70, e_71, hF⟩ := zlet_ob hF
    refine z_newT (n := 74) dX5_init_71 rfl zok5 ⟨_, rfl, rfl, q584⟩ q583 q130 hn_69 e_73 e_71 rfl ?_
    refine z_dup (n := 75) dX5_init_74 rfl rfl ?_
    obtain ⟨c_76, h_75, c_74, hF⟩ := zc1_some hF
    obtain ⟨cc, hF, hcc⟩ := zpay_some hF
    refine z_payE hcc ?_
    refine z_cIN (n := 78) (mc2 := (cc.1 + mE)) (ms2 := (cc.2 + wE)) (st := [.ref o_72, .ref o_67]) (C_X6_init htr c_74) dX5_init_75 rfl q587 q130 q585 q586 rfl hcee_X6_init rfl (by decide) rfl (Nat.le_of_ble_eq_true rfl) (Nat.le_of_eq (Nat.add_comm _ _)) (Nat.le_of_eq (Nat.add_comm _ _)) ?_
    obtain ⟨n_77, hk_78, hF⟩ := zka_some hF
    obtain ⟨c_82, t_83, c_79, hF⟩ := zc1_some hF
    obtain ⟨x_80, h_81⟩ := t_83
    dsimp only [zn2] at hF
    obtain ⟨cc, hF, hcc⟩ := zpay_some hF
    refine z_payE hcc ?_
    refine z_cV (n := 81) (mc2 := (cc.1 + mE)) (ms2 := (cc.2 + wE)) (st := []) (C_J2_add htr c_79) dX5_init_78 rfl (lw_V q644 q645 q646 q109 q647) hcee_J2_add rfl (by decide) hk_78 rfl rfl rfl (Nat.le_of_ble_eq_true rfl) (Nat.le_of_eq (Nat.add_comm _ _)) (Nat.le_of_eq (Nat.add_comm _ _)) ?_
    refine z_pop (n := 82) dX5_init_81 rfl rfl ?_
    obtain ⟨v1_84, e_85, hF⟩ := zlet_ob hF
    refine z_iincE (n := 85) (w := 1) (v := v1_84) (lv' := [(1, .int v1_84), (0, .ref o0)]) dX5_init_82 rfl 1 rfl (by decide) e_85 (by decide) rfl ?_
    refine z_goto (t := 61) dX5_init_85 (by decide) ?_
    refine z_sub [1, 0] rfl ?_
    obtain ⟨rfl, rfl⟩ := zpair hF
    refine z_eq (Nat.zero_add _) (Nat.zero_add _) ?_
    exact kl v1_84 h_81 rfl
set_option maxHeartbeats 1000000 in
theorem C_X5_init {l : Launch} {G : zGt} (htr : l.stackTraces = false) {o0 : Nat} {h : zSt} {cc : Nat × Nat} {r : zSt} (hF : F_X5_init o0 h = some (cc, r)) : zMet l G yX5_init (ws_ yX5_init cX5_init 2 none) 7 191 (cc.1 + 0) (cc.2 + 0) [.ref o0] (hK h) (jF h) (hI h) (hL h) (zQe (.inl none) (hK r) (jF r) (hI r) (hL r)) := by
  refine zMet.of (by decide +kernel) htr (Nat.le_of_ble_eq_true rfl) ?_
  change zW l G MX5_init 7 191 (cc.1 + 0) (cc.2 + 0) 0 [(0, .ref o0)] [] (hK h) (jF h) (hI h) (hL h) (zQe (.inl none) (hK r) (jF r) (hI r) (hL r))
  unfold F_X5_init at hF
  refine z_aload_n (n := 1) dX5_init_0 rfl 0 rfl rfl ?_
  refine z_objInit (n := 4) dX5_init_1 rfl q582 q151 q152 (by decide) (Nat.le_of_ble_eq_true rfl) ?_
  refine z_aload_n (n := 5) dX5_init_4 rfl 0 rfl rfl ?_
  obtain ⟨cc, hF, hcc⟩ := zpay_some hF
  refine z_payE hcc ?_
  obtain ⟨hn_1, hF⟩ := zg_some hF
  obtain ⟨o_4, e_5, hF⟩ := zlet_ob hF
  obtain ⟨h_2, e_3, hF⟩ := zlet_ob hF
  refine z_newT (n := 8) dX5_init_5 rfl zok5 ⟨_, rfl, rfl, q584⟩ q583 q130 hn_1 e_5 e_3 rfl ?_
  refine z_dup (n := 9) dX5_init_8 rfl rfl ?_
  obtain ⟨c_8, h_7, c_6, hF⟩ := zc1_some hF
  obtain ⟨cc, hF, hcc⟩ := zpay_some hF
  refine z_payE hcc ?_
  refine z_cIN (n := 12) (mc2 := (cc.1 + 0)) (ms2 := (cc.2 + 0)) (st := [.ref o_4, .ref o0]) (C_X6_init htr c_6) dX5_init_9 rfl q587 q130 q585 q586 rfl hcee_X6_init rfl (by decide) rfl (Nat.le_of_ble_eq_true rfl) (Nat.le_of_eq (Nat.add_comm _ _)) (Nat.le_of_eq (Nat.add_comm _ _)) ?_
  obtain ⟨n_9, hk_10, hF⟩ := zka_some hF
  obtain ⟨hb_11, hF⟩ := zg_some hF
  obtain ⟨h_12, e_13, hF⟩ := zlet_ob hF
  refine z_putR (r := (some o_4)) (n := 15) dX5_init_12 rfl zok4 fX5_12_4 (Or.inr ⟨rfl, _, rfl, rfl, rfl⟩) rfl hk_10 (zbig hb_11) ?_
  refine z_toF e_13 ?_
  refine z_aload_n (n := 16) dX5_init_15 rfl 0 rfl rfl ?_
  obtain ⟨cc, hF, hcc⟩ := zpay_some hF
  refine z_payE hcc ?_
  obtain ⟨hn_14, hF⟩ := zg_some hF
  obtain ⟨o_17, e_18, hF⟩ := zlet_ob hF
  obtain ⟨h_15, e_16, hF⟩ := zlet_ob hF
  refine z_newT (n := 19) dX5_init_16 rfl zok2 ⟨_, rfl, rfl, q160⟩ q642 q109 hn_14 e_18 e_16 rfl ?_
  refine z_dup (n := 20) dX5_init_19 rfl rfl ?_
  refine z_bipush (n := 22) (v := 40) dX5_init_20 rfl (by decide) ?_
  obtain ⟨c_21, h_20, c_19, hF⟩ := zc1_some hF
  obtain ⟨cc, hF, hcc⟩ := zpay_some hF
  refine z_payE hcc ?_
  refine z_cI (n := 25) (mc2 := (cc.1 + 0)) (ms2 := (cc.2 + 0)) (st := [.ref o_17, .ref o0]) (C_J2_init htr c_19) dX5_init_22 rfl q163 q109 q643 q162 rfl hcee_J2_init rfl (by decide) rfl (Nat.le_of_ble_eq_true rfl) (Nat.le_of_eq (Nat.add_comm _ _)) (Nat.le_of_eq (Nat.add_comm _ _)) ?_
  obtain ⟨n_22, hk_23, hF⟩ := zka_some hF
  obtain ⟨h_24, e_25, hF⟩ := zlet_ob hF
  refine z_putR (r := (some o_17)) (n := 28) dX5_init_25 rfl zok4 fX5_23_4 (Or.inr ⟨rfl, _, rfl, rfl, rfl⟩) rfl hk_23 (zbig hb_11) ?_
  refine z_toF e_25 ?_
  refine z_aload_n (n := 29) dX5_init_28 rfl 0 rfl rfl ?_
  refine z_bipush (n := 31) (v := 8) dX5_init_29 rfl (by decide) ?_
  obtain ⟨cc, hF, hcc⟩ := zpay_some hF
  refine z_payE hcc ?_
  obtain ⟨hn_26, hF⟩ := zg_some hF
  obtain ⟨o_29, e_30, hF⟩ := zlet_ob hF
  obtain ⟨h_27, e_28, hF⟩ := zlet_ob hF
  refine z_newaT (t := 0) (n := 33) .int dX5_init_31 rfl rfl (by decide) q521 (by decide) (by decide) (by decide) hn_26 e_30 e_28 ?_
  obtain ⟨n_31, hk_32, hF⟩ := zka_some hF
  obtain ⟨h_33, e_34, hF⟩ := zlet_ob hF
  refine z_putR (r := (some o_29)) (n := 36) dX5_init_33 rfl zok4 fX5_27_4 (Or.inr ⟨rfl, _, rfl, rfl, rfl⟩) rfl hk_32 (zbig hb_11) ?_
  refine z_toF e_34 ?_
  refine z_aload_n (n := 37) dX5_init_36 rfl 0 rfl rfl ?_
  refine z_bipush (n := 39) (v := 8) dX5_init_37 rfl (by decide) ?_
  obtain ⟨cc, hF, hcc⟩ := zpay_some hF
  refine z_payE hcc ?_
  obtain ⟨hn_35, hF⟩ := zg_some hF
  obtain ⟨o_38, e_39, hF⟩ := zlet_ob hF
  obtain ⟨h_36, e_37, hF⟩ := zlet_ob hF
  refine z_newaT (t := 0) (n := 41) .int dX5_init_39 rfl rfl (by decide) q521 (by decide) (by decide) (by decide) hn_35 e_39 e_37 ?_
  obtain ⟨n_40, hk_41, hF⟩ := zka_some hF
  obtain ⟨h_42, e_43, hF⟩ := zlet_ob hF
  refine z_putR (r := (some o_38)) (n := 44) dX5_init_41 rfl zok4 fX5_31_4 (Or.inr ⟨rfl, _, rfl, rfl, rfl⟩) rfl hk_41 (zbig hb_11) ?_
  refine z_toF e_43 ?_
  refine z_aload_n (n := 45) dX5_init_44 rfl 0 rfl rfl ?_
  refine z_bipush (n := 47) (v := 8) dX5_init_45 rfl (by decide) ?_
  obtain ⟨cc, hF, hcc⟩ := zpay_some hF
  refine z_payE hcc ?_
  obtain ⟨hn_44, hF⟩ := zg_some hF
  obtain ⟨o_47, e_48, hF⟩ := zlet_ob hF
  obtain ⟨h_45, e_46, hF⟩ := zlet_ob hF
  refine z_newaT (t := 0) (n := 49) .int dX5_init_47 rfl rfl (by decide) q521 (by decide) (by decide) (by decide) hn_44 e_48 e_46 ?_
  obtain ⟨n_49, hk_50, hF⟩ := zka_some hF
  obtain ⟨h_51, e_52, hF⟩ := zlet_ob hF
  refine z_putR (r := (some o_47)) (n := 52) dX5_init_49 rfl zok4 fX5_34_4 (Or.inr ⟨rfl, _, rfl, rfl, rfl⟩) rfl hk_50 (zbig hb_11) ?_
  refine z_toF e_52 ?_
  refine z_aload_n (n := 53) dX5_init_52 rfl 0 rfl rfl ?_
  refine z_iconst (n := 54) (v := 3) dX5_init_53 rfl (by decide) ?_
  obtain ⟨cc, hF, hcc⟩ := zpay_some hF
  refine z_payE hcc ?_
  obtain ⟨hn_53, hF⟩ := zg_some hF
  obtain ⟨o_56, e_57, hF⟩ := zlet_ob hF
  obtain ⟨h_54, e_55, hF⟩ := zlet_ob hF
  refine z_newaT (t := 0) (n := 56) .int dX5_init_54 rfl rfl (by decide) q521 (by decide) (by decide) (by decide) hn_53 e_57 e_55 ?_
  obtain ⟨n_58, hk_59, hF⟩ := zka_some hF
  obtain ⟨h_60, e_61, hF⟩ := zlet_ob hF
  refine z_putR (r := (some o_56)) (n := 59) dX5_init_56 rfl zok4 fX5_37_4 (Or.inr ⟨rfl, _, rfl, rfl, rfl⟩) rfl hk_59 (zbig hb_11) ?_
  refine z_toF e_61 ?_
  refine z_iconst (n := 60) (v := 0) dX5_init_59 rfl (by decide) ?_
  refine z_istore_nE (n := 61) (lv' := [(1, .int 0), (0, .ref o0)]) dX5_init_60 rfl rfl rfl (by decide) rfl ?_
  refine z_sub [1, 0] rfl ?_
  obtain ⟨c_88, t_89, e_87, hF⟩ := zc1_some hF
  obtain ⟨cc, hF, hcc⟩ := zpay_some hF
  obtain ⟨h_86, rfl⟩ : ∃ z, z = t_89 := ⟨_, rfl⟩
  have H_90 : zW l G MX5_init 7 191 (cc.1 + 0) (cc.2 + 0) 88 [] [] (hK h_86) (jF h_86) (hI h_86) (hL h_86) (zQe (.inl none) (hK r) (jF r) (hI r) (hL r)) := by
    obtain ⟨rfl, rfl⟩ := zpair hF
    exact z_vret dX5_init_88 rfl ⟨rfl, rfl, rfl, rfl, rfl⟩
  refine z_payE hcc ?_
  refine zloopC_ind (P := fun (s : Int32 × zSt) m w => zW l G MX5_init 7 191 (m + (cc.1 + 0)) (w + (cc.2 + 0)) 61 [(0, .ref o0), (1, .int s.1)] [] (hK s.2) (jF s.2) (hI s.2) (hL s.2) (zQe (.inl none) (hK r) (jF r) (hI r) (hL r))) (fun s c r E9 W9 hb kl kr => ?_) e_87
  refine z_eq (Nat.add_assoc _ _ _) (Nat.add_assoc _ _ _) ?_
  exact W_X5_init_L61 (o0 := o0) htr hb (fun z0 z1 e => kl _ e) (fun y0 e => by obtain ⟨h1, rfl, rfl⟩ := kr _ e; cases h1; exact z_eq (Nat.zero_add _) (Nat.zero_add _) H_90)
theorem fX9_7_8 : zFld RX9 7 8 6 := ⟨_, rfl, by decide, _, Or.inl q1107, Or.inl rfl⟩
theorem fX9_13_8 : zFld RX9 13 8 7 := ⟨_, rfl, by decide, _, Or.inl q1109, Or.inl rfl⟩
abbrev MX9_init : zM := (RX9, cX9_init, 3, none, "<init>", [])
noncomputable def F_X9_init (o0 : Nat) (a0 : Int32) (a1 : Int32) (h : zSt) : Option ((Nat × Nat) × (zSt)) := zka (hK h) o0 8 (fun n_1 => zg (decide (600 ≤ o0)) (zg ((jF h) o0 4).isNone (zg ((hK h) 26).isSome (zlet (zsF h (zu (zu (zu (jF h) o0 0 (some o0)) o0 1 ((jF h) 26 0)) o0 2 ((jF h) 26 1))) (fun h_6 => zka (hK h_6) o0 8 (fun n_8 => zlet (zsI h_6 (zu (hI h_6) o0 6 a0)) (fun h_10 => zka (hK h_10) o0 8 (fun n_12 => zlet (zsI h_10 (zu (hI h_10) o0 7 a1)) (fun h_14 => some ((0, 0), h_14))))))))))
set_option maxHeartbeats 1000000 in
theorem C_X9_init {l : Launch} {G : zGt} (htr : l.stackTraces = false) {o0 : Nat} {a0 : Int32} {a1 : Int32} {h : zSt} {cc : Nat × Nat} {r : zSt} (hF : F_X9_init o0 a0 a1 h = some (cc, r)) : zMet l G yX9_init (ws_ yX9_init cX9_init 3 none) 8 140 (cc.1 + 0) (cc.2 + 0) [.ref o0, .int a0, .int a1] (hK h) (jF h) (hI h) (hL h) (zQe (.inl none) (hK r) (jF r) (hI r) (hL r)) := by
  refine zMet.of (by decide +kernel) htr (Nat.le_of_ble_eq_true rfl) ?_
  change zW l G MX9_init 8 140 (cc.1 + 0) (cc.2 + 0) 0 [(0, .ref o0), (1, .int a0), (2, .int a1)] [] (hK h) (jF h) (hI h) (hL h) (zQe (.inl none) (hK r) (jF r) (hI r) (hL r))
  unfold F_X9_init at hF
  refine z_aload_n (n := 1) dX9_init_0 rfl 0 rfl rfl ?_
  obtain ⟨n_1, hk_2, hF⟩ := zka_some hF
  obtain ⟨hb_3, hF⟩ := zg_some hF
  obtain ⟨h_4, hF⟩ := zg_some hF
  obtain ⟨h_5, hF⟩ := zg_some hF
  obtain ⟨h_6, e_7, hF⟩ := zlet_ob hF
  refine z_faultSuper (n := 4) rfl dX9_init_1 rfl hk_2 (zbig hb_3) (Option.isNone_iff_eq_none.mp h_4) (zsome h_5) (by decide) (Nat.le_of_ble_eq_true rfl) ?_
  refine z_toF e_7 ?_
  refine z_aload_n (n := 5) dX9_init_4 rfl 0 rfl rfl ?_
  refine z_iload_n (n := 6) dX9_init_5 rfl 1 rfl rfl ?_
  obtain ⟨n_8, hk_9, hF⟩ := zka_some hF
  obtain ⟨h_10, e_11, hF⟩ := zlet_ob hF
  refine z_putIE (n := 9) dX9_init_6 rfl zok8 fX9_7_8 (Or.inr ⟨rfl, _, rfl, rfl, rfl⟩) rfl ⟨rfl, rfl⟩ hk_9 (zbig hb_3) rfl ?_
  refine z_toI e_11 ?_
  refine z_aload_n (n := 10) dX9_init_9 rfl 0 rfl rfl ?_
  refine z_iload_n (n := 11) dX9_init_10 rfl 2 rfl rfl ?_
  obtain ⟨n_12, hk_13, hF⟩ := zka_some hF
  obtain ⟨h_14, e_15, hF⟩ := zlet_ob hF
  refine z_putIE (n := 14) dX9_init_11 rfl zok8 fX9_13_8 (Or.inr ⟨rfl, _, rfl, rfl, rfl⟩) rfl ⟨rfl, rfl⟩ hk_13 (zbig hb_3) rfl ?_
  refine z_toI e_15 ?_
  obtain ⟨rfl, rfl⟩ := zpair hF
  exact z_vret dX9_init_14 rfl ⟨rfl, rfl, rfl, rfl, rfl⟩
theorem fX10_7_9 : zFld RX10 7 9 0 := ⟨_, rfl, by decide, _, Or.inl q1127, Or.inl rfl⟩
theorem fX10_13_9 : zFld RX10 13 9 1 := ⟨_, rfl, by decide, _, Or.inl q1129, Or.inl rfl⟩
abbrev MX10_init : zM := (RX10, cX10_init, 5, none, "<init>", [])
noncomputable def F_X10_init (o0 : Nat) (a0 : Int32) (a1 : Int32) (a2 : Int32) (a3 : Int32) (h : zSt) : Option ((Nat × Nat) × (zSt)) := zka (hK h) o0 9 (fun n_1 => zg (decide (600 ≤ o0)) (zlet (zsI h (zu (hI h) o0 0 a0)) (fun h_4 => zka (hK h_4) o0 9 (fun n_6 => zlet (zsI h_4 (zu (hI h_4) o0 1 a1)) (fun h_8 => zka (hK h_8) o0 9 (fun n_10 => zlet (zsI h_8 (zu (hI h_8) o0 2 a2)) (fun h_12 => zka (hK h_12) o0 9 (fun n_14 => zlet (zsI h_12 (zu (hI h_12) o0 3 a3)) (fun h_16 => some ((0, 0), h_16))))))))))
set_option maxHeartbeats 1000000 in
theorem C_X10_init {l : Launch} {G : zGt} (htr : l.stackTraces = false) {o0 : Nat} {a0 : Int32} {a1 : Int32} {a2 : Int32} {a3 : Int32} {h : zSt} {cc : Nat × Nat} {r : zSt} (hF : F_X10_init o0 a0 a1 a2 a3 h = some (cc, r)) : zMet l G yX10_init (ws_ yX10_init cX10_init 5 none) 1 24 (cc.1 + 0) (cc.2 + 0) [.ref o0, .int a0, .int a1, .int a2, .int a3] (hK h) (jF h) (hI h) (hL h) (zQe (.inl none) (hK r) (jF r) (hI r) (hL r)) := by
  refine zMet.of (by decide +kernel) htr (Nat.le_of_ble_eq_true rfl) ?_
  change zW l G MX10_init 1 24 (cc.1 + 0) (cc.2 + 0) 0 [(0, .ref o0), (1, .int a0), (2, .int a1), (3, .int a2), (4, .int a3)] [] (hK h) (jF h) (hI h) (hL h) (zQe (.inl none) (hK r) (jF r) (hI r) (hL r))
  unfold F_X10_init at hF
  refine z_aload_n (n := 1) dX10_init_0 rfl 0 rfl rfl ?_
  refine z_objInit (n := 4) dX10_init_1 rfl q1126 q151 q152 (by decide) (Nat.le_of_ble_eq_true rfl) ?_
  refine z_aload_n (n := 5) dX10_init_4 rfl 0 rfl rfl ?_
  refine z_iload_n (n := 6) dX10_init_5 rfl 1 rfl rfl ?_
  obtain ⟨n_1, hk_2, hF⟩ := zka_some hF
  obtain ⟨hb_3, hF⟩ := zg_some hF
  obtain ⟨h_4, e_5, hF⟩ := zlet_ob hF
  refine z_putIE (n := 9) dX10_init_6 rfl zok9 fX10_7_9 (Or.inr ⟨rfl, _, rfl, rfl, rfl⟩) rfl ⟨rfl, rfl⟩ hk_2 (zbig hb_3) rfl ?_
  refine z_toI e_5 ?_
  refine z_aload_n (n := 10) dX10_init_9 rfl 0 rfl rfl ?_
  refine z_iload_n (n := 11) dX10_init_10 rfl 2 rfl rfl ?_
  obtain ⟨n_6, hk_7, hF⟩ := zka_some hF
  obtain ⟨h_8, e_9, hF⟩ := zlet_ob hF
  refine z_putIE (n := 14) dX10_init_11 rfl zok9 fX10_13_9 (Or.inr ⟨rfl, _, rfl, rfl, rfl⟩) rfl ⟨rfl, rfl⟩ hk_7 (zbig hb_3) rfl ?_
  refine z_toI e_9 ?_
  refine z_aload_n (n := 15) dX10_init_14 rfl 0 rfl rfl ?_
  refine z_iload_n (n := 16) dX10_init_15 rfl 3 rfl rfl ?_
  obtain ⟨n_10, hk_11, hF⟩ := zka_some hF
  obtain ⟨h_12, e_13, hF⟩ := zlet_ob hF
  refine z_putIE (n := 19) dX10_init_16 rfl zok9 fX10_16_9 (Or.inr ⟨rfl, _, rfl, rfl, rfl⟩) rfl ⟨rfl, rfl⟩ hk_11 (zbig hb_3) rfl ?_
  refine z_toI e_13 ?_
  refine z_aload_n (n := 20) dX10_init_19 rfl 0 rfl rfl ?_
  refine z_iload (n := 22) dX10_init_20 rfl 4 rfl ?_
  obtain ⟨n_14, hk_15, hF⟩ := zka_some hF
  obtain ⟨h_16, e_17, hF⟩ := zlet_ob hF
  refine z_putIE (n := 25) dX10_init_22 rfl zok9 fX10_19_9 (Or.inr ⟨rfl, _, rfl, rfl, rfl⟩) rfl ⟨rfl, rfl⟩ hk_15 (zbig hb_3) rfl ?_
  refine z_toI e_17 ?_
  obtain ⟨rfl, rfl⟩ := zpair hF
  exact z_vret dX10_init_25 rfl ⟨rfl, rfl, rfl, rfl, rfl⟩
theorem fX11_7_10 : zFld RX11 7 10 0 := ⟨_, rfl, by decide, _, Or.inl q1169, Or.inl rfl⟩
theorem fX11_13_10 : zFld RX11 13 10 1 := ⟨_, rfl, by decide, _, Or.inl q1171, Or.inl rfl⟩
theorem fX11_16_10 : zFld RX11 16 10 2 := ⟨_, rfl, by decide, _, Or.inl q1173, Or.inl rfl⟩
abbrev MX11_init : zM := (RX11, cX11_init, 4, none, "<init>", [])
noncomputable def F_X11_init (o0 : Nat) (a0 : Int32) (a1 : Int32) (a2 : Int32) (h : zSt) : Option ((Nat × Nat) × (zSt)) := zka (hK h) o0 10 (fun n_1 => zg (decide (600 ≤ o0)) (zlet (zsI h (zu (hI h) o0 0 a0)) (fun h_4 => zka (hK h_4) o0 10 (fun n_6 => zlet (zsI h_4 (zu (hI h_4) o0 1 a1)) (fun h_8 => zka (hK h_8) o0 10 (fun n_10 => zlet (zsI h_8 (zu (hI h_8) o0 2 a2)) (fun h_12 => some ((0, 0), h_12))))))))
set_option maxHeartbeats 1000000 in
theorem C_X11_init {l : Launch} {G : zGt} (htr : l.stackTraces = false) {o0 : Nat} {a0 : Int32} {a1 : Int32} {a2 : Int32} {h : zSt} {cc : Nat × Nat} {r : zSt} (hF : F_X11_init o0 a0 a1 a2 h = some (cc, r)) : zMet l G yX11_init (ws_ yX11_init cX11_init 4 none) 1 24 (cc.1 + 0) (cc.2 + 0) [.ref o0, .int a0, .int a1, .int a2] (hK h) (jF h) (hI h) (hL h) (zQe (.inl none) (hK r) (jF r) (hI r) (hL r)) := by
  refine zMet.of (by decide +kernel) htr (Nat.le_of_ble_eq_true rfl) ?_
  change zW l G MX11_init 1 24 (cc.1 + 0) (cc.2 + 0) 0 [(0, .ref o0), (1, .int a0), (2, .int a1), (3, .int a2)] [] (hK h) (jF h) (hI h) (hL h) (zQe (.inl none) (hK r) (jF r) (hI r) (hL r))
  unfold F_X11_init at hF
  refine z_aload_n (n := 1) dX11_init_0 rfl 0 rfl rfl ?_
  refine z_objInit (n := 4) dX11_init_1 rfl q1168 q151 q152 (by decide) (Nat.le_of_ble_eq_true rfl) ?_
  refine z_aload_n (n := 5) dX11_init_4 rfl 0 rfl rfl ?_
  refine z_iload_n (n := 6) dX11_init_5 rfl 1 rfl rfl ?_
  obtain ⟨n_1, hk_2, hF⟩ := zka_some hF
  obtain ⟨hb_3, hF⟩ := zg_some hF
  obtain ⟨h_4, e_5, hF⟩ := zlet_ob hF
  refine z_putIE (n := 9) dX11_init_6 rfl zok10 fX11_7_10 (Or.inr ⟨rfl, _, rfl, rfl, rfl⟩) rfl ⟨rfl, rfl⟩ hk_2 (zbig hb_3) rfl ?_
  refine z_toI e_5 ?_
  refine z_aload_n (n := 10) dX11_init_9 rfl 0 rfl rfl ?_
  refine z_iload_n (n := 11) dX11_init_10 rfl 2 rfl rfl ?_
  obtain ⟨n_6, hk_7, hF⟩ := zka_some hF
  obtain ⟨h_8, e_9, hF⟩ := zlet_ob hF
  refine z_putIE (n := 14) dX11_init_11 rfl zok10 fX11_13_10 (Or.inr ⟨rfl, _, rfl, rfl, rfl⟩) rfl ⟨rfl, rfl⟩ hk_7 (zbig hb_3) rfl ?_
  refine z_toI e_9 ?_
  refine z_aload_n (n := 15) dX11_init_14 rfl 0 rfl rfl ?_
  refine z_iload_n (n := 16) dX11_init_15 rfl 3 rfl rfl ?_
  obtain ⟨n_10, hk_11, hF⟩ := zka_some hF
  obtain ⟨h_12, e_13, hF⟩ := zlet_ob hF
  refine z_putIE (n := 19) dX11_init_16 rfl zok10 fX11_16_10 (Or.inr ⟨rfl, _, rfl, rfl, rfl⟩) rfl ⟨rfl, rfl⟩ hk_11 (zbig hb_3) rfl ?_
  refine z_toI e_13 ?_
  obtain ⟨rfl, rfl⟩ := zpair hF
  exact z_vret dX11_init_19 rfl ⟨rfl, rfl, rfl, rfl, rfl⟩
abbrev MX12_init : zM := (RX12, cX12_init, 1, none, "<init>", [])
noncomputable def F_X12_init (o0 : Nat) (h : zSt) : Option ((Nat × Nat) × (zSt)) := some ((0, 0), h)
set_option maxHeartbeats 1000000 in
theorem C_X12_init {l : Launch} {G : zGt} (htr : l.stackTraces = false) {o0 : Nat} {h : zSt} {cc : Nat × Nat} {r : zSt} (hF : F_X12_init o0 h = some (cc, r)) : zMet l G yX12_init (ws_ yX12_init cX12_init 1 none) 1 24 (cc.1 + 0) (cc.2 + 0) [.ref o0] (hK h) (jF h) (hI h) (hL h) (zQe (.inl none) (hK r) (jF r) (hI r) (hL r)) := by
  refine zMet.of (by decide +kernel) htr (Nat.le_of_ble_eq_true rfl) ?_
  change zW l G MX12_init 1 24 (cc.1 + 0) (cc.2 + 0) 0 [(0, .ref o0)] [] (hK h) (jF h) (hI h) (hL h) (zQe (.inl none) (hK r) (jF r) (hI r) (hL r))
  unfold F_X12_init at hF
  refine z_aload_n (n := 1) dX12_init_0 rfl 0 rfl rfl ?_
  refine z_objInit (n := 4) dX12_init_1 rfl q1255 q151 q152 (by decide) (Nat.le_of_ble_eq_true rfl) ?_
  obtain ⟨rfl, rfl⟩ := zpair hF
  exact z_vret dX12_init_4 rfl ⟨rfl, rfl, rfl, rfl, rfl⟩
theorem hcee_X12_init : zCee yX12_init RX12 0 := ⟨rfl, by decide +kernel, by decide +kernel, by decide +kernel⟩
abbrev MX13_init : zM := (RX13, cX13_init, 2, none, "<init>", [])
noncomputable def F_X13_init (o0 : Nat) (a0 : Int32) (h : zSt) : Option ((Nat × Nat) × (zSt)) := zc1 (F_X12_init o0 h) (fun c_3 h_2 => zpay c_3 (zka (hK h_2) o0 11 (fun n_4 => zg (decide (600 ≤ o0)) (zlet (zsI h_2 (zu (hI h_2) o0 0 a0)) (fun h_7 => some ((0, 0), h_7))))))
set_option maxHeartbeats 1000000 in
theorem C_X13_init {l : Launch} {G : zGt} (htr : l.stackTraces = false) {o0 : Nat} {a0 : Int32} {h : zSt} {cc : Nat × Nat} {r : zSt} (hF : F_X13_init o0 a0 h = some (cc, r)) : zMet l G yX13_init (ws_ yX13_init cX13_init 2 none) 2 44 (cc.1 + 0) (cc.2 + 0) [.ref o0, .int a0] (hK h) (jF h) (hI h) (hL h) (zQe (.inl none) (hK r) (jF r) (hI r) (hL r)) := by
  refine zMet.of (by decide +kernel) htr (Nat.le_of_ble_eq_true rfl) ?_
  change zW l G MX13_init 2 44 (cc.1 + 0) (cc.2 + 0) 0 [(0, .ref o0), (1, .int a0)] [] (hK h) (jF h) (hI h) (hL h) (zQe (.inl none) (hK r) (jF r) (hI r) (hL r))
  unfold F_X13_init at hF
  refine z_aload_n (n := 1) dX13_init_0 rfl 0 rfl rfl ?_
  obtain ⟨c_3, h_2, c_1, hF⟩ := zc1_some hF
  obtain ⟨cc, hF, hcc⟩ := zpay_some hF
  refine z_payE hcc ?_
  refine z_cIN (n := 4) (mc2 := (cc.1 + 0)) (ms2 := (cc.2 + 0)) (st := []) (C_X12_init htr c_1) dX13_init_1 rfl q1254 q139 q1252 q1253 rfl hcee_X12_init rfl (by decide) rfl (Nat.le_of_ble_eq_true rfl) (Nat.le_of_eq (Nat.add_comm _ _)) (Nat.le_of_eq (Nat.add_comm _ _)) ?_
  refine z_aload_n (n := 5) dX13_init_4 rfl 0 rfl rfl ?_
  refine z_iload_n (n := 6) dX13_init_5 rfl 1 rfl rfl ?_
  obtain ⟨n_4, hk_5, hF⟩ := zka_some hF
  obtain ⟨hb_6, hF⟩ := zg_some hF
  obtain ⟨h_7, e_8, hF⟩ := zlet_ob hF
  refine z_putIE (n := 9) dX13_init_6 rfl zok11 fX13_7_11 (Or.inr ⟨rfl, _, rfl, rfl, rfl⟩) rfl ⟨rfl, rfl⟩ hk_5 (zbig hb_6) rfl ?_
  refine z_toI e_8 ?_
  obtain ⟨rfl, rfl⟩ := zpair hF
  exact z_vret dX13_init_9 rfl ⟨rfl, rfl, rfl, rfl, rfl⟩
abbrev MX14_init : zM := (RX14, cX14_init, 2, none, "<init>", [])
noncomputable def F_X14_init (o0 : Nat) (a0 : Nat) (h : zSt) : Option ((Nat × Nat) × (zSt)) := zc1 (F_X12_init o0 h) (fun c_3 h_2 => zpay c_3 (zka (hK h_2) o0 12 (fun n_4 => zg (decide (600 ≤ o0)) (zlet (zsF h_2 (zu (jF h_2) o0 0 (some a0))) (fun h_7 => some ((0, 0), h_7))))))
set_option maxHeartbeats 1000000 in
theorem C_X14_init {l : Launch} {G : zGt} (htr : l.stackTraces = false) {o0 : Nat} {a0 : Nat} {h : zSt} {cc : Nat × Nat} {r : zSt} (hF : F_X14_init o0 a0 h = some (cc, r)) : zMet l G yX14_init (ws_ yX14_init cX14_init 2 none) 2 44 (cc.1 + 0) (cc.2 + 0) [.ref o0, .ref a0] (hK h) (jF h) (hI h) (hL h) (zQe (.inl none) (hK r) (jF r) (hI r) (hL r)) := by
  refine zMet.of (by decide +kernel) htr (Nat.le_of_ble_eq_true rfl) ?_
  change zW l G MX14_init 2 44 (cc.1 + 0) (cc.2 + 0) 0 [(0, .ref o0), (1, .ref a0)] [] (hK h) (jF h) (hI h) (hL h) (zQe (.inl none) (hK r) (jF r) (hI r) (hL r))
  unfold F_X14_init at hF
  refine z_aload_n (n := 1) dX14_init_0 rfl 0 rfl rfl ?_
  obtain ⟨c_3, h_2, c_1, hF⟩ := zc1_some hF
  obtain ⟨cc, hF, hcc⟩ := zpay_some hF
  refine z_payE hcc ?_
  refine z_cIN (n := 4) (mc2 := (cc.1 + 0)) (ms2 := (cc.2 + 0)) (st := []) (C_X12_init htr c_1) dX14_init_1 rfl q1254 q139 q1287 q1253 rfl hcee_X12_init rfl (by decide) rfl (Nat.le_of_ble_eq_true rfl) (Nat.le_of_eq (Nat.add_comm _ _)) (Nat.le_of_eq (Nat.add_comm _ _)) ?_
  refine z_aload_n (n := 5) dX14_init_4 rfl 0 rfl rfl ?_
  refine z_aload_n (n := 6) dX14_init_5 rfl 1 rfl rfl ?_
  obtain ⟨n_4, hk_5, hF⟩ := zka_some hF
  obtain ⟨hb_6, hF⟩ := zg_some hF
  obtain ⟨h_7, e_8, hF⟩ := zlet_ob hF
  refine z_putR (r := (some a0)) (n := 9) dX14_init_6 rfl zok12 fX14_7_12 (Or.inr ⟨rfl, _, rfl, rfl, rfl⟩) rfl hk_5 (zbig hb_6) ?_
  refine z_toF e_8 ?_
  obtain ⟨rfl, rfl⟩ := zpair hF
  exact z_vret dX14_init_9 rfl ⟨rfl, rfl, rfl, rfl, rfl⟩
abbrev MX15_init : zM := (RX15, cX15_init, 4, none, "<init>", [])
noncomputable def F_X15_init (o0 : Nat) (a0 : Int32) (a1 : Nat) (a2 : Nat) (h : zSt) : Option ((Nat × Nat) × (zSt)) := zc1 (F_X12_init o0 h) (fun c_3 h_2 => zpay c_3 (zka (hK h_2) o0 13 (fun n_4 => zg (decide (600 ≤ o0)) (zg (zfitsC a0) (zlet (zsI h_2 (zu (hI h_2) o0 0 a0)) (fun h_8 => zka (hK h_8) o0 13 (fun n_10 => zlet (zsF h_8 (zu (jF h_8) o0 1 (some a1))) (fun h_12 => zka (hK h_12) o0 13 (fun n_14 => zlet (zsF h_12 (zu (jF h_12) o0 2 (some a2))) (fun h_16 => some ((0, 0), h_16)))))))))))
set_option maxHeartbeats 1000000 in
theorem C_X15_init {l : Launch} {G : zGt} (htr : l.stackTraces = false) {o0 : Nat} {a0 : Int32} {a1 : Nat} {a2 : Nat} {h : zSt} {cc : Nat × Nat} {r : zSt} (hF : F_X15_init o0 a0 a1 a2 h = some (cc, r)) : zMet l G yX15_init (ws_ yX15_init cX15_init 4 none) 2 44 (cc.1 + 0) (cc.2 + 0) [.ref o0, .int a0, .ref a1, .ref a2] (hK h) (jF h) (hI h) (hL h) (zQe (.inl none) (hK r) (jF r) (hI r) (hL r)) := by
  refine zMet.of (by decide +kernel) htr (Nat.le_of_ble_eq_true rfl) ?_
  change zW l G MX15_init 2 44 (cc.1 + 0) (cc.2 + 0) 0 [(0, .ref o0), (1, .int a0), (2, .ref a1), (3, .ref a2)] [] (hK h) (jF h) (hI h) (hL h) (zQe (.inl none) (hK r) (jF r) (hI r) (hL r))
  unfold F_X15_init at hF
  refine z_aload_n (n := 1) dX15_init_0 rfl 0 rfl rfl ?_
  obtain ⟨c_3, h_2, c_1, hF⟩ := zc1_some hF
  obtain ⟨cc, hF, hcc⟩ := zpay_some hF
  refine z_payE hcc ?_
  refine z_cIN (n := 4) (mc2 := (cc.1 + 0)) (ms2 := (cc.2 + 0)) (st := []) (C_X12_init htr c_1) dX15_init_1 rfl q1254 q139 q1314 q1253 rfl hcee_X12_init rfl (by decide) rfl (Nat.le_of_ble_eq_true rfl) (Nat.le_of_eq (Nat.add_comm _ _)) (Nat.le_of_eq (Nat.add_comm _ _)) ?_
  refine z_aload_n (n := 5) dX15_init_4 rfl 0 rfl rfl ?_
  refine z_iload_n (n := 6) dX15_init_5 rfl 1 rfl rfl ?_
  obtain ⟨n_4, hk_5, hF⟩ := zka_some hF
  obtain ⟨hb_6, hF⟩ := zg_some hF
  obtain ⟨h_7, hF⟩ := zg_some hF
  obtain ⟨h_8, e_9, hF⟩ := zlet_ob hF
  refine z_putIE (n := 9) dX15_init_6 rfl zok13 fX15_7_13 (Or.inr ⟨rfl, _, rfl, rfl, rfl⟩) rfl (zfitsC_ok h_7) hk_5 (zbig hb_6) rfl ?_
  refine z_toI e_9 ?_
  refine z_aload_n (n := 10) dX15_init_9 rfl 0 rfl rfl ?_
  refine z_aload_n (n := 11) dX15_init_10 rfl 2 rfl rfl ?_
  obtain ⟨n_10, hk_11, hF⟩ := zka_some hF
  obtain ⟨h_12, e_13, hF⟩ := zlet_ob hF
  refine z_putR (r := (some a1)) (n := 14) dX15_init_11 rfl zok13 fX15_13_13 (Or.inr ⟨rfl, _, rfl, rfl, rfl⟩) rfl hk_11 (zbig hb_6) ?_
  refine z_toF e_13 ?_
  refine z_aload_n (n := 15) dX15_init_14 rfl 0 rfl rfl ?_
  refine z_aload_n (n := 16) dX15_init_15 rfl 3 rfl rfl ?_
  obtain ⟨n_14, hk_15, hF⟩ := zka_some hF
  obtain ⟨h_16, e_17, hF⟩ := zlet_ob hF
  refine z_putR (r := (some a2)) (n := 19) dX15_init_16 rfl zok13 fX15_17_13 (Or.inr ⟨rfl, _, rfl, rfl, rfl⟩) rfl hk_15 (zbig hb_6) ?_
  refine z_toF e_17 ?_
  obtain ⟨rfl, rfl⟩ := zpair hF
  exact z_vret dX15_init_19 rfl ⟨rfl, rfl, rfl, rfl, rfl⟩
abbrev MX16_init : zM := (RX16, cX16_init, 2, none, "<init>", [])
noncomputable def F_X16_init (o0 : Nat) (a0 : Nat) (h : zSt) : Option ((Nat × Nat) × (zSt)) := zc1 (F_X12_init o0 h) (fun c_3 h_2 => zpay c_3 (zka (hK h_2) o0 14 (fun n_4 => zg (decide (600 ≤ o0)) (zlet (zsF h_2 (zu (jF h_2) o0 0 (some a0))) (fun h_7 => some ((0, 0), h_7))))))
set_option maxHeartbeats 1000000 in
theorem C_X16_init {l : Launch} {G : zGt} (htr : l.stackTraces = false) {o0 : Nat} {a0 : Nat} {h : zSt} {cc : Nat × Nat} {r : zSt} (hF : F_X16_init o0 a0 h = some (cc, r)) : zMet l G yX16_init (ws_ yX16_init cX16_init 2 none) 2 44 (cc.1 + 0) (cc.2 + 0) [.ref o0, .ref a0] (hK h) (jF h) (hI h) (hL h) (zQe (.inl none) (hK r) (jF r) (hI r) (hL r)) := by
  refine zMet.of (by decide +kernel) htr (Nat.le_of_ble_eq_true rfl) ?_
  change zW l G MX16_init 2 44 (cc.1 + 0) (cc.2 + 0) 0 [(0, .ref o0), (1, .ref a0)] [] (hK h) (jF h) (hI h) (hL h) (zQe (.inl none) (hK r) (jF r) (hI r) (hL r))
  unfold F_X16_init at hF
  refine z_aload_n (n := 1) dX16_init_0 rfl 0 rfl rfl ?_
  obtain ⟨c_3, h_2, c_1, hF⟩ := zc1_some hF
  obtain ⟨cc, hF, hcc⟩ := zpay_some hF
  refine z_payE hcc ?_
  refine z_cIN (n := 4) (mc2 := (cc.1 + 0)) (ms2 := (cc.2 + 0)) (st := []) (C_X12_init htr c_1) dX16_init_1 rfl q1254 q139 q1334 q1253 rfl hcee_X12_init rfl (by decide) rfl (Nat.le_of_ble_eq_true rfl) (Nat.le_of_eq (Nat.add_comm _ _)) (Nat.le_of_eq (Nat.add_comm _ _)) ?_
  refine z_aload_n (n := 5) dX16_init_4 rfl 0 rfl rfl ?_
  refine z_aload_n (n := 6) dX16_init_5 rfl 1 rfl rfl ?_
  obtain ⟨n_4, hk_5, hF⟩ := zka_some hF
  obtain ⟨hb_6, hF⟩ := zg_some hF
  obtain ⟨h_7, e_8, hF⟩ := zlet_ob hF
  refine z_putR (r := (some a0)) (n := 9) dX16_init_6 rfl zok14 fX16_7_14 (Or.inr ⟨rfl, _, rfl, rfl, rfl⟩) rfl hk_5 (zbig hb_6) ?_
  refine z_toF e_8 ?_
  obtain ⟨rfl, rfl⟩ := zpair hF
  exact z_vret dX16_init_9 rfl ⟨rfl, rfl, rfl, rfl, rfl⟩
theorem fX5_44_4 : zFld RX5 44 4 6 := ⟨_, rfl, by decide, _, Or.inl q710, Or.inl rfl⟩
theorem hcee_J2_remove : zCee yJ2_remove RJ2 1 := ⟨rfl, by decide +kernel, by decide +kernel, by decide +kernel⟩
theorem hcee_X6_like : zCee yX6_like RX6 1 := ⟨rfl, by decide +kernel, by decide +kernel, by decide +kernel⟩
abbrev MX5_keeps : zM := (RX5, cX5_keeps, 1, none, "keeps", [])
noncomputable def F_X5_keeps (o0 : Nat) (h : zSt) : Option ((Nat × Nat) × (zSt)) := zka (hK h) o0 4 (fun n_1 => zg (decide (600 ≤ o0)) (zlet (fun (h_4 : zSt) => zka (hK h_4) o0 4 (fun n_8 => zb1 ((jF h_4) o0 1) (fun o_10 => zka (hK h_4) o_10 2 (fun n_12 => zb1 (F_J2_get (hK h_4) (jF h_4) o_10 ((hI h_4) o0 6) (hI h_4)) (fun q_15 => zb1 q_15 (fun o_16 => zka (hK h_4) o_16 5 (fun n_18 => zb1 ((jF h_4) o0 0) (fun o_20 => zb1 (F_X6_like (hK h_4) (jF h_4) o_16 o_20 (hI h_4)) (fun I_23 => zlet (zsFI h_4 (jF h_4) I_23) (fun h_24 => zka (hK h_24) o0 4 (fun n_26 => zlet (zsI h_24 (zu (hI h_24) o0 6 (((hI h_24) o0 6) + 1))) (fun h_28 => some ((0, 0), h_28))))))))))))) (fun k_5 => if ¬ ((hI h) o0 6) = 40 then k_5 h else zb1 ((jF h) o0 1) (fun o_30 => zb1 ((jF h) o0 1) (fun o_32 => zka (hK h) o_32 2 (fun n_34 => zb3 (F_J2_remove (hK h) (jF h) o_32 0 (hI h)) (fun q_37 F_38 I_39 => zlet (zsFI h F_38 I_39) (fun h_40 => zb1 q_37 (fun o_42 => zka (hK h_40) o_42 5 (fun n_44 => zka (hK h_40) o_30 2 (fun n_46 => zc1 (F_J2_add o_30 o_42 h_40) (fun c_51 => zn2 (fun x_49 h_50 => zpay c_51 (zka (hK h_50) o0 4 (fun n_53 => zlet (zsI h_50 (zu (hI h_50) o0 6 (((hI h_50) o0 6) - 1))) (fun h_55 => k_5 h_55))))))))))))))))
set_option maxHeartbeats 1000000 in
theorem C_X5_keeps {l : Launch} {G : zGt} (htr : l.stackTraces = false) {o0 : Nat} {h : zSt} {cc : Nat × Nat} {r : zSt} (hF : F_X5_keeps o0 h = some (cc, r)) : zMet l G yX5_keeps (ws_ yX5_keeps cX5_keeps 1 none) 7 191 (cc.1 + 0) (cc.2 + 0) [.ref o0] (hK h) (jF h) (hI h) (hL h) (zQe (.inl none) (hK r) (jF r) (hI r) (hL r)) := by
  refine zMet.of (by decide +kernel) htr (Nat.le_of_ble_eq_true rfl) ?_
  change zW l G MX5_keeps 7 191 (cc.1 + 0) (cc.2 + 0) 0 [(0, .ref o0)] [] (hK h) (jF h) (hI h) (hL h) (zQe (.inl none) (hK r) (jF r) (hI r) (hL r))
  unfold F_X5_keeps at hF
  refine z_aload_n (n := 1) dX5_keeps_0 rfl 0 rfl rfl ?_
  obtain ⟨n_1, hk_2, hF⟩ := zka_some hF
  obtain ⟨hb_3, hF⟩ := zg_some hF
  refine z_getI (n := 4) dX5_keeps_1 rfl zok4 fX5_44_4 rfl hk_2 (Or.inl (zbig hb_3)) ?_
  refine z_bipush (n := 6) (v := 40) dX5_keeps_4 rfl (by decide) ?_
  obtain ⟨k_5, e_6, hF⟩ := zlet_ob hF
  have H_7 : ∀ (h_4 : zSt) (cc : Nat × Nat), k_5 h_4 = some (cc, r) → zW l G MX5_keeps 7 191 (cc.1 + 0) (cc.2 + 0) 38 [(0, .ref o0)] [] (hK h_4) (jF h_4) (hI h_4) (hL h_4) (zQe (.inl none) (hK r) (jF r) (hI r) (hL r)) := by
    intro h_4 cc hF
    subst e_6
    dsimp only at hF
    refine z_aload_n (n := 39) dX5_keeps_38 rfl 0 rfl rfl ?_
    obtain ⟨n_8, hk_9, hF⟩ := zka_some hF
    obtain ⟨o_10, hr_11, hF⟩ := zb1_some hF
    refine z_getRS (n := 42) dX5_keeps_39 rfl zok4 fX5_23_4 rfl hk_9 (Or.inl (zbig hb_3)) hr_11 ?_
    refine z_aload_n (n := 43) dX5_keeps_42 rfl 0 rfl rfl ?_
    refine z_getI (n := 46) dX5_keeps_43 rfl zok4 fX5_44_4 rfl hk_9 (Or.inl (zbig hb_3)) ?_
    obtain ⟨n_12, hk_13, hF⟩ := zka_some hF
    obtain ⟨q_15, c_14, hF⟩ := zb1_some hF
    refine z_cV (n := 49) (mc2 := (cc.1 + 0)) (ms2 := (cc.2 + 0)) (st := []) (C_J2_get htr c_14) dX5_keeps_46 rfl (lw_V q812 q813 q814 q109 q815) hcee_J2_get rfl (by decide) hk_13 rfl rfl rfl (Nat.le_of_ble_eq_true rfl) (Nat.le_refl _) (Nat.le_refl _) ?_
    obtain ⟨o_16, hr_17, hF⟩ := zb1_some hF
    rw [hr_17]
    obtain ⟨n_18, hk_19, hF⟩ := zka_some hF
    refine z_castS (n := 52) dX5_keeps_49 rfl hk_19 rfl q583 rfl ?_
    refine z_aload_n (n := 53) dX5_keeps_52 rfl 0 rfl rfl ?_
    obtain ⟨o_20, hr_21, hF⟩ := zb1_some hF
    refine z_getRS (n := 56) dX5_keeps_53 rfl zok4 fX5_12_4 rfl hk_9 (Or.inl (zbig hb_3)) hr_21 ?_
    obtain ⟨I_23, c_22, hF⟩ := zb1_some hF
    refine z_cV (n := 59) (mc2 := (cc.1 + 0)) (ms2 := (cc.2 + 0)) (st := []) (C_X6_like htr c_22) dX5_keeps_56 rfl (lw_V q820 q821 q822 q130 q823) hcee_X6_like rfl (by decide) hk_19 rfl rfl rfl (Nat.le_of_ble_eq_true rfl) (Nat.le_refl _) (Nat.le_refl _) ?_
    obtain ⟨h_24, e_25, hF⟩ := zlet_ob hF
    refine z_toFI e_25 ?_
    refine z_aload_n (n := 60) dX5_keeps_59 rfl 0 rfl rfl ?_
    refine z_dup (n := 61) dX5_keeps_60 rfl rfl ?_
    obtain ⟨n_26, hk_27, hF⟩ := zka_some hF
    refine z_getI (n := 64) dX5_keeps_61 rfl zok4 fX5_44_4 rfl hk_27 (Or.inl (zbig hb_3)) ?_
    refine z_iconst (n := 65) (v := 1) dX5_keeps_64 rfl (by decide) ?_
    refine z_iadd (n := 66) dX5_keeps_65 rfl ?_
    obtain ⟨h_28, e_29, hF⟩ := zlet_ob hF
    refine z_putIE (n := 69) dX5_keeps_66 rfl zok4 fX5_44_4 (Or.inl ⟨_, rfl, rfl⟩) rfl ⟨rfl, rfl⟩ hk_27 (zbig hb_3) rfl ?_
    refine z_toI e_29 ?_
    obtain ⟨rfl, rfl⟩ := zpair hF
    exact z_vret dX5_keeps_69 rfl ⟨rfl, rfl, rfl, rfl, rfl⟩
  clear e_6
  refine z_icmp_ne (n := 9) (t := 38) dX5_keeps_6 rfl (by decide) (fun hc => ?_) (fun hc => ?_)
  · replace hF := (if_pos hc).symm.trans hF
    exact H_7 h _ hF
  · replace hF := (if_neg hc).symm.trans hF
    refine z_aload_n (n := 10) dX5_keeps_9 rfl 0 rfl rfl ?_
    obtain ⟨o_30, hr_31, hF⟩ := zb1_some hF
    refine z_getRS (n := 13) dX5_keeps_10 rfl zok4 fX5_23_4 rfl hk_2 (Or.inl (zbig hb_3)) hr_31 ?_
    refine z_aload_n (n := 14) dX5_keeps_13 rfl 0 rfl rfl ?_
    obtain ⟨o_32, hr_33, hF⟩ := zb1_some hF
    refine z_getRS (n := 17) dX5_keeps_14 rfl zok4 fX5_23_4 rfl hk_2 (Or.inl (zbig hb_3)) hr_33 ?_
    refine z_iconst (n := 18) (v := 0) dX5_keeps_17 rfl (by decide) ?_
    obtain ⟨n_34, hk_35, hF⟩ := zka_some hF
    obtain ⟨q_37, F_38, I_39, c_36, hF⟩ := zb3_some hF
    refine z_cV (n := 21) (mc2 := (cc.1 + 0)) (ms2 := (cc.2 + 0)) (st := [.ref o_30]) (C_J2_remove htr c_36) dX5_keeps_18 rfl (lw_V q797 q798 q799 q109 q800) hcee_J2_remove rfl (by decide) hk_35 rfl rfl rfl (Nat.le_of_ble_eq_true rfl) (Nat.le_refl _) (Nat.le_refl _) ?_
    obtain ⟨h_40, e_41, hF⟩ := zlet_ob hF
    refine z_toFI e_41 ?_
    obtain ⟨o_42, hr_43, hF⟩ := zb1_some hF
    rw [hr_43]
    obtain ⟨n_44, hk_45, hF⟩ := zka_some hF
    refine z_castS (n := 24) dX5_keeps_21 rfl hk_45 rfl q583 rfl ?_
    obtain ⟨n_46, hk_47, hF⟩ := zka_some hF
    obtain ⟨c_51, t_52, c_48, hF⟩ := zc1_some hF
    obtain ⟨x_49, h_50⟩ := t_52
    dsimp only [zn2] at hF
    obtain ⟨cc, hF, hcc⟩ := zpay_some hF
    refine z_payE hcc ?_
    refine z_cV (n := 27) (mc2 := (cc.1 + 0)) (ms2 := (cc.2 + 0)) (st := []) (C_J2_add htr c_48) dX5_keeps_24 rfl (lw_V q644 q645 q646 q109 q647) hcee_J2_add rfl (by decide) hk_47 rfl rfl rfl (Nat.le_of_ble_eq_true rfl) (Nat.le_of_eq (Nat.add_comm _ _)) (Nat.le_of_eq (Nat.add_comm _ _)) ?_
    refine z_pop (n := 28) dX5_keeps_27 rfl rfl ?_
    refine z_aload_n (n := 29) dX5_keeps_28 rfl 0 rfl rfl ?_
    refine z_dup (n := 30) dX5_keeps_29 rfl rfl ?_
    obtain ⟨n_53, hk_54, hF⟩ := zka_some hF
    refine z_getI (n := 33) dX5_keeps_30 rfl zok4 fX5_44_4 rfl hk_54 (Or.inl (zbig hb_3)) ?_
    refine z_iconst (n := 34) (v := 1) dX5_keeps_33 rfl (by decide) ?_
    refine z_isub (n := 35) dX5_keeps_34 rfl ?_
    obtain ⟨h_55, e_56, hF⟩ := zlet_ob hF
    refine z_putIE (n := 38) dX5_keeps_35 rfl zok4 fX5_44_4 (Or.inl ⟨_, rfl, rfl⟩) rfl ⟨rfl, rfl⟩ hk_54 (zbig hb_3) rfl ?_
    refine z_toI e_56 ?_
    exact H_7 h_55 _ hF
theorem fX5_65_4 : zFld RX5 65 4 7 := ⟨_, rfl, by decide, _, Or.inl q712, Or.inl rfl⟩
abbrev MX5_like : zM := (RX5, cX5_like, 3, none, "like", [])
noncomputable def F_X5_like_L13 (K : zKd) (F : zFd) (o0 : Nat) (a0 : Nat) (v2_15 : Int32) (I_16 : zId) : Option ((Int32 × zId) ⊕ (zId)) := zka K a0 4 (fun n_17 => zg (decide (600 ≤ a0)) (if (I_16 a0 6) ≤ v2_15 then some (.inr (I_16)) else zka K o0 4 (fun n_20 => zg (decide (600 ≤ o0)) (zb1 (F o0 1) (fun o_23 => zka K o_23 2 (fun n_25 => zb1 (F_J2_get K F o_23 v2_15 I_16) (fun q_28 => zb1 q_28 (fun o_29 => zka K o_29 5 (fun n_31 => zb1 (F a0 1) (fun o_33 => zka K o_33 2 (fun n_35 => zb1 (F_J2_get K F o_33 v2_15 I_16) (fun q_38 => zb1 q_38 (fun o_39 => zka K o_39 5 (fun n_41 => zb1 (F_X6_like K F o_29 o_39 I_16) (fun I_44 => zlet (v2_15 + 1) (fun v2_45 => some (.inl (v2_45, I_44))))))))))))))))))
noncomputable def F_X5_like (K : zKd) (F : zFd) (o0 : Nat) (a0 : Nat) (I : zId) : Option (zId) := zka K o0 4 (fun n_1 => zg (decide (600 ≤ o0)) (zb1 (F o0 0) (fun o_4 => zka K a0 4 (fun n_6 => zg (decide (600 ≤ a0)) (zb1 (F a0 0) (fun o_9 => zka K o_4 5 (fun n_11 => zb1 (F_X6_like K F o_4 o_9 I) (fun I_14 => zb1 (zloop (fun s : Int32 × zId => F_X5_like_L13 K F o0 a0 s.1 s.2) (0, I_14)) (fun I_47 => zb1 (F a0 2) (fun o_48 => zb1 (F o0 2) (fun o_50 => zka K o_48 64 (fun n_52 => zka K o_50 64 (fun n_54 => zg (decide (600 ≤ o_48)) (zg (decide (600 ≤ o_50)) (zg (zcpok 0 0 8 n_52 n_54) (zlet (zcpy I_47 o_48 0 o_50 0 8) (fun I_59 => zb1 (F a0 3) (fun o_61 => zb1 (F o0 3) (fun o_63 => zka K o_61 64 (fun n_65 => zka K o_63 64 (fun n_67 => zg (decide (600 ≤ o_61)) (zg (decide (600 ≤ o_63)) (zg (zcpok 0 0 8 n_65 n_67) (zlet (zcpy I_59 o_61 0 o_63 0 8) (fun I_72 => zb1 (F a0 4) (fun o_74 => zb1 (F o0 4) (fun o_76 => zka K o_74 64 (fun n_78 => zka K o_76 64 (fun n_80 => zg (decide (600 ≤ o_74)) (zg (decide (600 ≤ o_76)) (zg (zcpok 0 0 8 n_78 n_80) (zlet (zcpy I_72 o_74 0 o_76 0 8) (fun I_85 => zb1 (F a0 5) (fun o_87 => zb1 (F o0 5) (fun o_89 => zb1 (F o0 5) (fun o_91 => zka K o_91 64 (fun n_93 => zka K o_87 64 (fun n_95 => zka K o_89 64 (fun n_97 => zg (decide (600 ≤ o_87)) (zg (decide (600 ≤ o_89)) (zg (zcpok 0 0 (nI n_93) n_95 n_97) (zlet (zcpy I_85 o_87 0 o_89 0 ((nI n_93).toNatClampNeg)) (fun I_102 => zlet (zu I_102 o0 6 (I_102 a0 6)) (fun I_104 => zlet (zu I_104 o0 7 (I_104 a0 7)) (fun I_106 => some I_106)))))))))))))))))))))))))))))))))))))))))))))
set_option maxHeartbeats 1000000 in
theorem W_X5_like_L13 {l : Launch} {G : zGt} (htr : l.stackTraces = false) {K : zKd} {F : zFd} {L : zLd} {Q : zQt} {o0 : Nat} {a0 : Nat} {v2_15 : Int32} {I_16 : zId} {r : (Int32 × zId) ⊕ (zId)} (hF : F_X5_like_L13 K F o0 a0 v2_15 I_16 = some r) (kl : ∀ (z0 : Int32) (z1 : zId), r = .inl (z0, z1) → zW l G MX5_like 3 81 0 0 13 [(0, .ref o0), (1, .ref a0), (2, .int z0)] [] K F z1 L Q) (kx : ∀ (y0 : zId), r = .inr y0 → zW l G MX5_like 3 81 0 0 52 [(0, .ref o0), (1, .ref a0)] [] K F y0 L Q)  : zW l G MX5_like 3 81 0 0 13 [(0, .ref o0), (1, .ref a0), (2, .int v2_15)] [] K F I_16 L Q := by
  unfold F_X5_like_L13 at hF
  refine z_iload_n (n := 14) dX5_like_13 rfl 2 rfl rfl ?_
  refine z_aload_n (n := 15) dX5_like_14 rfl 1 rfl rfl ?_
  obtain ⟨n_17, hk_18, hF⟩ := zka_some hF
  obtain ⟨hb_19, hF⟩ := zg_some hF
  refine z_getI (n := 18) dX5_like_15 rfl zok4 fX5_44_4 rfl hk_18 (Or.inl (zbig hb_19)) ?_
  refine z_icmp_ge (n := 21) (t := 52) dX5_like_18 rfl (by decide) (fun hc => ?_) (fun hc => ?_)
  · replace hF := (if_pos hc).symm.trans hF
    refine z_sub [0, 1] rfl ?_
    have hF := Option.some.inj hF; subst hF
    exact kx I_16 rfl
  · replace hF := (if_neg hc).symm.trans hF
    refine z_aload_n (n := 22) dX5_like_21 rfl 0 rfl rfl ?_
    obtain ⟨n_20, hk_21, hF⟩ := zka_some hF
    obtain ⟨hb_22, hF⟩ := zg_some hF
    obtain ⟨o_23, hr_24, hF⟩ := zb1_some hF
    refine z_getRS (n := 25) dX5_like_22 rfl zok4 fX5_23_4 rfl hk_21 (Or.inl (zbig hb_22)) hr_24 ?_
    refine z_iload_n (n := 26) dX5_like_25 rfl 2 rfl rfl ?_
    obtain ⟨n_25, hk_26, hF⟩ := zka_some hF
    obtain ⟨q_28, c_27, hF⟩ := zb1_some hF
    refine z_cV (n := 29) (st := []) (C_J2_get htr c_27) dX5_like_26 rfl (lw_V q812 q813 q814 q109 q815) hcee_J2_get rfl (by decide) hk_26 rfl rfl rfl (Nat.le_of_ble_eq_true rfl) (Nat.le_refl _) (Nat.le_refl _) ?_
    obtain ⟨o_29, hr_30, hF⟩ := zb1_some hF
    rw [hr_30]
    obtain ⟨n_31, hk_32, hF⟩ := zka_some hF
    refine z_castS (n := 32) dX5_like_29 rfl hk_32 rfl q583 rfl ?_
    refine z_aload_n (n := 33) dX5_like_32 rfl 1 rfl rfl ?_
    obtain ⟨o_33, hr_34, hF⟩ := zb1_some hF
    refine z_getRS (n := 36) dX5_like_33 rfl zok4 fX5_23_4 rfl hk_18 (Or.inl (zbig hb_19)) hr_34 ?_
    refine z_iload_n (n := 37) dX5_like_36 rfl 2 rfl rfl ?_
    obtain ⟨n_35, hk_36, hF⟩ := zka_some hF
    obtain ⟨q_38, c_37, hF⟩ := zb1_some hF
    refine z_cV (n := 40) (st := [.ref o_29]) (C_J2_get htr c_37) dX5_like_37 rfl (lw_V q812 q813 q814 q109 q815) hcee_J2_get rfl (by decide) hk_36 rfl rfl rfl (Nat.le_of_ble_eq_true rfl) (Nat.le_refl _) (Nat.le_refl _) ?_
    obtain ⟨o_39, hr_40, hF⟩ := zb1_some hF
    rw [hr_40]
    obtain ⟨n_41, hk_42, hF⟩ := zka_some hF
    refine z_castS (n := 43) dX5_like_40 rfl hk_42 rfl q583 rfl ?_
    obtain ⟨I_44, c_43, hF⟩ := zb1_some hF
    refine z_cV (n := 46) (st := []) (C_X6_like htr c_43) dX5_like_43 rfl (lw_V q820 q821 q822 q130 q823) hcee_X6_like rfl (by decide) hk_32 rfl rfl rfl (Nat.le_of_ble_eq_true rfl) (Nat.le_refl _) (Nat.le_refl _) ?_
    obtain ⟨v2_45, e_46, hF⟩ := zlet_ob hF
    refine z_iincE (n := 49) (w := 1) (v := v2_45) (lv' := [(2, .int v2_45), (0, .ref o0), (1, .ref a0)]) dX5_like_46 rfl 2 rfl (by decide) e_46 (by decide) rfl ?_
    refine z_goto (t := 13) dX5_like_49 (by decide) ?_
    refine z_sub [1, 2, 0] rfl ?_
    have hF := Option.some.inj hF; subst hF
    exact kl v2_45 I_44 rfl
set_option maxHeartbeats 1000000 in
theorem C_X5_like {l : Launch} {G : zGt} (htr : l.stackTraces = false) {K : zKd} {F : zFd} {L : zLd} {o0 : Nat} {a0 : Nat} {I : zId} {r : zId} (hF : F_X5_like K F o0 a0 I = some r) : zMet l G yX5_like (ws_ yX5_like cX5_like 3 none) 3 81 0 0 [.ref o0, .ref a0] K F I L (zQe (.inl none) K F r L) := by
  refine zMet.of (by decide +kernel) htr (Nat.le_of_ble_eq_true rfl) ?_
  change zW l G MX5_like 3 81 0 0 0 [(0, .ref o0), (1, .ref a0)] [] K F I L (zQe (.inl none) K F r L)
  unfold F_X5_like at hF
  refine z_aload_n (n := 1) dX5_like_0 rfl 0 rfl rfl ?_
  obtain ⟨n_1, hk_2, hF⟩ := zka_some hF
  obtain ⟨hb_3, hF⟩ := zg_some hF
  obtain ⟨o_4, hr_5, hF⟩ := zb1_some hF
  refine z_getRS (n := 4) dX5_like_1 rfl zok4 fX5_12_4 rfl hk_2 (Or.inl (zbig hb_3)) hr_5 ?_
  refine z_aload_n (n := 5) dX5_like_4 rfl 1 rfl rfl ?_
  obtain ⟨n_6, hk_7, hF⟩ := zka_some hF
  obtain ⟨hb_8, hF⟩ := zg_some hF
  obtain ⟨o_9, hr_10, hF⟩ := zb1_some hF
  refine z_getRS (n := 8) dX5_like_5 rfl zok4 fX5_12_4 rfl hk_7 (Or.inl (zbig hb_8)) hr_10 ?_
  obtain ⟨n_11, hk_12, hF⟩ := zka_some hF
  obtain ⟨I_14, c_13, hF⟩ := zb1_some hF
  refine z_cV (n := 11) (st := []) (C_X6_like htr c_13) dX5_like_8 rfl (lw_V q820 q821 q822 q130 q823) hcee_X6_like rfl (by decide) hk_12 rfl rfl rfl (Nat.le_of_ble_eq_true rfl) (Nat.le_refl _) (Nat.le_refl _) ?_
  refine z_iconst (n := 12) (v := 0) dX5_like_11 rfl (by decide) ?_
  refine z_istore_nE (n := 13) (lv' := [(2, .int 0), (0, .ref o0), (1, .ref a0)]) dX5_like_12 rfl rfl rfl (by decide) rfl ?_
  refine z_sub [1, 2, 0] rfl ?_
  obtain ⟨t_109, e_108, hF⟩ := zb1_some hF
  obtain ⟨I_47, rfl⟩ : ∃ z, z = t_109 := ⟨_, rfl⟩
  have H_110 : zW l G MX5_like 3 81 0 0 52 [(0, .ref o0), (1, .ref a0)] [] K F I_47 L (zQe (.inl none) K F r L) := by
    refine z_aload_n (n := 53) dX5_like_52 rfl 1 rfl rfl ?_
    obtain ⟨o_48, hr_49, hF⟩ := zb1_some hF
    refine z_getRS (n := 56) dX5_like_53 rfl zok4 fX5_27_4 rfl hk_7 (Or.inl (zbig hb_8)) hr_49 ?_
    refine z_iconst (n := 57) (v := 0) dX5_like_56 rfl (by decide) ?_
    refine z_aload_n (n := 58) dX5_like_57 rfl 0 rfl rfl ?_
    obtain ⟨o_50, hr_51, hF⟩ := zb1_some hF
    refine z_getRS (n := 61) dX5_like_58 rfl zok4 fX5_27_4 rfl hk_2 (Or.inl (zbig hb_3)) hr_51 ?_
    refine z_iconst (n := 62) (v := 0) dX5_like_61 rfl (by decide) ?_
    refine z_bipush (n := 64) (v := 8) dX5_like_62 rfl (by decide) ?_
    obtain ⟨n_52, hk_53, hF⟩ := zka_some hF
    obtain ⟨n_54, hk_55, hF⟩ := zka_some hF
    obtain ⟨hb_56, hF⟩ := zg_some hF
    obtain ⟨hb_57, hF⟩ := zg_some hF
    obtain ⟨h_58, hF⟩ := zg_some hF
    obtain ⟨I_59, e_60, hF⟩ := zlet_ob hF
    refine z_copyi (sk := 0) (dk := 0) (nk := 8) (n := 67) dX5_like_64 rfl q940 q294 q293 q121 hk_53 hk_55 (zbig hb_56) (zbig hb_57) h_58 (by decide) (by decide) (by decide)  e_60 (by decide) (Nat.le_of_ble_eq_true rfl) ?_
    refine z_aload_n (n := 68) dX5_like_67 rfl 1 rfl rfl ?_
    obtain ⟨o_61, hr_62, hF⟩ := zb1_some hF
    refine z_getRS (n := 71) dX5_like_68 rfl zok4 fX5_31_4 rfl hk_7 (Or.inl (zbig hb_8)) hr_62 ?_
    refine z_iconst (n := 72) (v := 0) dX5_like_71 rfl (by decide) ?_
    refine z_aload_n (n := 73) dX5_like_72 rfl 0 rfl rfl ?_
    obtain ⟨o_63, hr_64, hF⟩ := zb1_some hF
    refine z_getRS (n := 76) dX5_like_73 rfl zok4 fX5_31_4 rfl hk_2 (Or.inl (zbig hb_3)) hr_64 ?_
    refine z_iconst (n := 77) (v := 0) dX5_like_76 rfl (by decide) ?_
    refine z_bipush (n := 79) (v := 8) dX5_like_77 rfl (by decide) ?_
    obtain ⟨n_65, hk_66, hF⟩ := zka_some hF
    obtain ⟨n_67, hk_68, hF⟩ := zka_some hF
    obtain ⟨hb_69, hF⟩ := zg_some hF
    obtain ⟨hb_70, hF⟩ := zg_some hF
    obtain ⟨h_71, hF⟩ := zg_some hF
    obtain ⟨I_72, e_73, hF⟩ := zlet_ob hF
    refine z_copyi (sk := 0) (dk := 0) (nk := 8) (n := 82) dX5_like_79 rfl q940 q294 q293 q121 hk_66 hk_68 (zbig hb_69) (zbig hb_70) h_71 (by decide) (by decide) (by decide)  e_73 (by decide) (Nat.le_of_ble_eq_true rfl) ?_
    refine z_aload_n (n := 83) dX5_like_82 rfl 1 rfl rfl ?_
    obtain ⟨o_74, hr_75, hF⟩ := zb1_some hF
    refine z_getRS (n := 86) dX5_like_83 rfl zok4 fX5_34_4 rfl hk_7 (Or.inl (zbig hb_8)) hr_75 ?_
    refine z_iconst (n := 87) (v := 0) dX5_like_86 rfl (by decide) ?_
    refine z_aload_n (n := 88) dX5_like_87 rfl 0 rfl rfl ?_
    obtain ⟨o_76, hr_77, hF⟩ := zb1_some hF
    refine z_getRS (n := 91) dX5_like_88 rfl zok4 fX5_34_4 rfl hk_2 (Or.inl (zbig hb_3)) hr_77 ?_
    refine z_iconst (n := 92) (v := 0) dX5_like_91 rfl (by decide) ?_
    refine z_bipush (n := 94) (v := 8) dX5_like_92 rfl (by decide) ?_
    obtain ⟨n_78, hk_79, hF⟩ := zka_some hF
    obtain ⟨n_80, hk_81, hF⟩ := zka_some hF
    obtain ⟨hb_82, hF⟩ := zg_some hF
    obtain ⟨hb_83, hF⟩ := zg_some hF
    obtain ⟨h_84, hF⟩ := zg_some hF
    obtain ⟨I_85, e_86, hF⟩ := zlet_ob hF
    refine z_copyi (sk := 0) (dk := 0) (nk := 8) (n := 97) dX5_like_94 rfl q940 q294 q293 q121 hk_79 hk_81 (zbig hb_82) (zbig hb_83) h_84 (by decide) (by decide) (by decide)  e_86 (by decide) (Nat.le_of_ble_eq_true rfl) ?_
    refine z_aload_n (n := 98) dX5_like_97 rfl 1 rfl rfl ?_
    obtain ⟨o_87, hr_88, hF⟩ := zb1_some hF
    refine z_getRS (n := 101) dX5_like_98 rfl zok4 fX5_37_4 rfl hk_7 (Or.inl (zbig hb_8)) hr_88 ?_
    refine z_iconst (n := 102) (v := 0) dX5_like_101 rfl (by decide) ?_
    refine z_aload_n (n := 103) dX5_like_102 rfl 0 rfl rfl ?_
    obtain ⟨o_89, hr_90, hF⟩ := zb1_some hF
    refine z_getRS (n := 106) dX5_like_103 rfl zok4 fX5_37_4 rfl hk_2 (Or.inl (zbig hb_3)) hr_90 ?_
    refine z_iconst (n := 107) (v := 0) dX5_like_106 rfl (by decide) ?_
    refine z_aload_n (n := 108) dX5_like_107 rfl 0 rfl rfl ?_
    obtain ⟨o_91, hr_92, hF⟩ := zb1_some hF
    refine z_getRS (n := 111) dX5_like_108 rfl zok4 fX5_37_4 rfl hk_2 (Or.inl (zbig hb_3)) hr_92 ?_
    obtain ⟨n_93, hk_94, hF⟩ := zka_some hF
    refine z_alen (n := 112) 0 (by decide) dX5_like_111 rfl hk_94 ?_
    obtain ⟨n_95, hk_96, hF⟩ := zka_some hF
    obtain ⟨n_97, hk_98, hF⟩ := zka_some hF
    obtain ⟨hb_99, hF⟩ := zg_some hF
    obtain ⟨hb_100, hF⟩ := zg_some hF
    obtain ⟨h_101, hF⟩ := zg_some hF
    obtain ⟨I_102, e_103, hF⟩ := zlet_ob hF
    refine z_copyi (sk := 0) (dk := 0) (nk := ((nI n_93).toNatClampNeg)) (n := 115) dX5_like_112 rfl q940 q294 q293 q121 hk_96 hk_98 (zbig hb_99) (zbig hb_100) h_101 (by decide) (by decide) rfl  e_103 (by decide) (Nat.le_of_ble_eq_true rfl) ?_
    refine z_aload_n (n := 116) dX5_like_115 rfl 0 rfl rfl ?_
    refine z_aload_n (n := 117) dX5_like_116 rfl 1 rfl rfl ?_
    refine z_getI (n := 120) dX5_like_117 rfl zok4 fX5_44_4 rfl hk_7 (Or.inl (zbig hb_8)) ?_
    obtain ⟨I_104, e_105, hF⟩ := zlet_ob hF
    refine z_putIE (n := 123) dX5_like_120 rfl zok4 fX5_44_4 (Or.inl ⟨_, rfl, rfl⟩) rfl ⟨rfl, rfl⟩ hk_2 (zbig hb_3) e_105 ?_
    refine z_aload_n (n := 124) dX5_like_123 rfl 0 rfl rfl ?_
    refine z_aload_n (n := 125) dX5_like_124 rfl 1 rfl rfl ?_
    refine z_getI (n := 128) dX5_like_125 rfl zok4 fX5_65_4 rfl hk_7 (Or.inl (zbig hb_8)) ?_
    obtain ⟨I_106, e_107, hF⟩ := zlet_ob hF
    refine z_putIE (n := 131) dX5_like_128 rfl zok4 fX5_65_4 (Or.inl ⟨_, rfl, rfl⟩) rfl ⟨rfl, rfl⟩ hk_2 (zbig hb_3) e_107 ?_
    have hF := Option.some.inj hF; subst hF
    exact z_vret dX5_like_131 rfl ⟨rfl, rfl, rfl, rfl, rfl⟩
  refine zloop_ind (P := fun s : Int32 × zId => zW l G MX5_like 3 81 0 0 13 [(0, .ref o0), (1, .ref a0), (2, .int s.1)] [] K F s.2 L (zQe (.inl none) K F r L)) (fun s r hb kl kr => ?_) e_108
  exact W_X5_like_L13 (o0 := o0) (a0 := a0) htr hb (fun z0 z1 e => kl _ e) (fun y0 e => by cases kr _ e; exact H_110)
