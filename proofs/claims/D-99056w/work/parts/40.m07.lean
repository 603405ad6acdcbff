theorem fX7_129 : zFld RX7 129 6 51 := ⟨_, rfl, by decide, _, Or.inl q1728, Or.inl rfl⟩
abbrev MX7_unlike : zM := (RX7, cX7_unlike, 6, (some .int), "unlike", [])
noncomputable def F_X7_unlike_L18 (a0 : Int32) (I : zId) (v3_2 : Int32) (v4_3 : Int32) (v5_4 : Int32) : Option ((Int32 × Int32) ⊕ (Int32)) := if v3_2 ≤ v5_4 then some (.inr (v4_3)) else if v4_3 = 0 then some (.inr (v4_3)) else zg (zin (((6 : Int32) * v5_4) + a0) 1080) (zg (zin (((6 : Int32) * v3_2) + a0) 1080) (if (I 1895 ((((6 : Int32) * v5_4) + a0).toNatClampNeg)) = (I 1895 ((((6 : Int32) * v3_2) + a0).toNatClampNeg)) then zlet (v5_4 + 1) (fun v5_7 => some (.inl (0, v5_7))) else zlet (v5_4 + 1) (fun v5_9 => some (.inl (1, v5_9)))))
noncomputable def F_X7_unlike_L4 (a0 : Int32) (I : zId) (v2_1 : Int32) (v3_2 : Int32) : Option ((Int32 × Int32) ⊕ (Int32)) := if (I 1860 52) ≤ v3_2 then some (.inr (v2_1)) else zb1 (zloop (fun s : Int32 × Int32 => F_X7_unlike_L18 a0 I v3_2 s.1 s.2) (1, 0)) (fun v4_11 => zlet (fun (w_13 : Int32) => zlet (v2_1 + w_13) (fun v2_17 => zlet (v3_2 + 1) (fun v3_19 => some (.inl (v2_17, v3_19))))) (fun k_14 => if v4_11 = 0 then k_14 0 else k_14 1))
noncomputable def F_X7_unlike (a0 : Int32) (I : zId) : Option (Int32) := zb1 (zloop (fun s : Int32 × Int32 => F_X7_unlike_L4 a0 I s.1 s.2) (0, 0)) (fun v2_23 => some v2_23)
set_option maxHeartbeats 1000000 in
theorem W_X7_unlike_L18 {l : Launch} {G : zGt} (htr : l.stackTraces = false) {K : zKd} {F : zFd} {L : zLd} {Q : zQt} {a0 : Int32} {I : zId} {v2_1 : Int32} {v3_2 : Int32} {v4_3 : Int32} {v5_4 : Int32} (hM : zMLay K F) {r : (Int32 × Int32) ⊕ (Int32)} (hF : F_X7_unlike_L18 a0 I v3_2 v4_3 v5_4 = some r) (kl : ∀ (z0 : Int32) (z1 : Int32), r = .inl (z0, z1) → zW l G MX7_unlike 0 0 0 0 18 [(0, .ref 1860), (1, .int a0), (2, .int v2_1), (3, .int v3_2), (4, .int z0), (5, .int z1)] [] K F I L Q) (kx : ∀ (y0 : Int32), r = .inr y0 → zW l G MX7_unlike 0 0 0 0 68 [(0, .ref 1860), (1, .int a0), (2, .int v2_1), (3, .int v3_2), (4, .int y0)] [] K F I L Q)  : zW l G MX7_unlike 0 0 0 0 18 [(0, .ref 1860), (1, .int a0), (2, .int v2_1), (3, .int v3_2), (4, .int v4_3), (5, .int v5_4)] [] K F I L Q := by
  unfold F_X7_unlike_L18 at hF
  refine z_iload (n := 20) dX7_unlike_18 rfl 5 rfl ?_
  refine z_iload_n (n := 21) dX7_unlike_20 rfl 3 rfl rfl ?_
  refine z_icmp_ge (n := 24) (t := 68) dX7_unlike_21 rfl (by decide) (fun hc => ?_) (fun hc => ?_)
  · replace hF := (if_pos hc).symm.trans hF
    refine z_sub [0, 1, 2, 3, 4] rfl ?_
    have hF := Option.some.inj hF; subst hF
    exact kx _ rfl
  · replace hF := (if_neg hc).symm.trans hF
    refine z_iload (n := 26) dX7_unlike_24 rfl 4 rfl ?_
    refine z_if_eq (n := 29) (t := 68) dX7_unlike_26 rfl (by decide) (fun hc => ?_) (fun hc => ?_)
    · replace hF := (if_pos hc).symm.trans hF
      refine z_sub [0, 1, 2, 3, 4] rfl ?_
      have hF := Option.some.inj hF; subst hF
      exact kx _ rfl
    · replace hF := (if_neg hc).symm.trans hF
      refine z_aload_n (n := 30) dX7_unlike_29 rfl 0 rfl rfl ?_
      refine z_getRS (n := 33) dX7_unlike_30 rfl zok6 fX7_129 rfl hM.1 (Or.inl (by decide)) (mF_51 hM) ?_
      refine z_bipush (n := 35) (v := 6) dX7_unlike_33 rfl (by decide) ?_
      refine z_iload (n := 37) dX7_unlike_35 rfl 5 rfl ?_
      refine z_imul (n := 38) dX7_unlike_37 rfl ?_
      refine z_iload_n (n := 39) dX7_unlike_38 rfl 1 rfl rfl ?_
      refine z_iadd (n := 40) dX7_unlike_39 rfl ?_
      obtain ⟨h_5, hF⟩ := zg_some hF
      refine z_ialdK (n := 41) ((((6 : Int32) * v5_4) + a0).toNatClampNeg) rfl dX7_unlike_40 rfl (mK_51 hM) (zin_ok h_5) ?_
      refine z_aload_n (n := 42) dX7_unlike_41 rfl 0 rfl rfl ?_
      refine z_getRS (n := 45) dX7_unlike_42 rfl zok6 fX7_129 rfl hM.1 (Or.inl (by decide)) (mF_51 hM) ?_
      refine z_bipush (n := 47) (v := 6) dX7_unlike_45 rfl (by decide) ?_
      refine z_iload_n (n := 48) dX7_unlike_47 rfl 3 rfl rfl ?_
      refine z_imul (n := 49) dX7_unlike_48 rfl ?_
      refine z_iload_n (n := 50) dX7_unlike_49 rfl 1 rfl rfl ?_
      refine z_iadd (n := 51) dX7_unlike_50 rfl ?_
      obtain ⟨h_6, hF⟩ := zg_some hF
      refine z_ialdK (n := 52) ((((6 : Int32) * v3_2) + a0).toNatClampNeg) rfl dX7_unlike_51 rfl (mK_51 hM) (zin_ok h_6) ?_
      refine z_icmp_eq (n := 55) (t := 59) dX7_unlike_52 rfl (by decide) (fun hc => ?_) (fun hc => ?_)
      · replace hF := (if_pos hc).symm.trans hF
        refine z_iconst (n := 60) (v := 0) dX7_unlike_59 rfl (by decide) ?_
        refine z_istoreE (n := 62) (lv' := [(4, .int 0), (0, .ref 1860), (1, .int a0), (2, .int v2_1), (3, .int v3_2), (5, .int v5_4)]) dX7_unlike_60 rfl rfl (by decide) rfl ?_
        obtain ⟨v5_7, e_8, hF⟩ := zlet_ob hF
        refine z_iincE (n := 65) (w := 1) (v := v5_7) (lv' := [(5, .int v5_7), (4, .int 0), (0, .ref 1860), (1, .int a0), (2, .int v2_1), (3, .int v3_2)]) dX7_unlike_62 rfl 5 rfl (by decide) e_8 (by decide) rfl ?_
        refine z_goto (t := 18) dX7_unlike_65 (by decide) ?_
        refine z_sub [2, 3, 4, 5, 1, 0] rfl ?_
        have hF := Option.some.inj hF; subst hF
        exact kl _ _ rfl
      · replace hF := (if_neg hc).symm.trans hF
        refine z_iconst (n := 56) (v := 1) dX7_unlike_55 rfl (by decide) ?_
        refine z_goto (t := 60) dX7_unlike_56 (by decide) ?_
        refine z_istoreE (n := 62) (lv' := [(4, .int 1), (0, .ref 1860), (1, .int a0), (2, .int v2_1), (3, .int v3_2), (5, .int v5_4)]) dX7_unlike_60 rfl rfl (by decide) rfl ?_
        obtain ⟨v5_9, e_10, hF⟩ := zlet_ob hF
        refine z_iincE (n := 65) (w := 1) (v := v5_9) (lv' := [(5, .int v5_9), (4, .int 1), (0, .ref 1860), (1, .int a0), (2, .int v2_1), (3, .int v3_2)]) dX7_unlike_62 rfl 5 rfl (by decide) e_10 (by decide) rfl ?_
        refine z_goto (t := 18) dX7_unlike_65 (by decide) ?_
        refine z_sub [2, 3, 4, 5, 1, 0] rfl ?_
        have hF := Option.some.inj hF; subst hF
        exact kl _ _ rfl
set_option maxHeartbeats 1000000 in
theorem W_X7_unlike_L4 {l : Launch} {G : zGt} (htr : l.stackTraces = false) {K : zKd} {F : zFd} {L : zLd} {Q : zQt} {a0 : Int32} {I : zId} {v2_1 : Int32} {v3_2 : Int32} (hM : zMLay K F) {r : (Int32 × Int32) ⊕ (Int32)} (hF : F_X7_unlike_L4 a0 I v2_1 v3_2 = some r) (kl : ∀ (z0 : Int32) (z1 : Int32), r = .inl (z0, z1) → zW l G MX7_unlike 0 0 0 0 4 [(0, .ref 1860), (1, .int a0), (2, .int z0), (3, .int z1)] [] K F I L Q) (kx : ∀ (y0 : Int32), r = .inr y0 → zW l G MX7_unlike 0 0 0 0 87 [(2, .int y0)] [] K F I L Q)  : zW l G MX7_unlike 0 0 0 0 4 [(0, .ref 1860), (1, .int a0), (2, .int v2_1), (3, .int v3_2)] [] K F I L Q := by
  unfold F_X7_unlike_L4 at hF
  refine z_iload_n (n := 5) dX7_unlike_4 rfl 3 rfl rfl ?_
  refine z_aload_n (n := 6) dX7_unlike_5 rfl 0 rfl rfl ?_
  refine z_getI (n := 9) dX7_unlike_6 rfl zok6 fX7_434 rfl hM.1 (Or.inl (by decide)) ?_
  refine z_icmp_ge (n := 12) (t := 87) dX7_unlike_9 rfl (by decide) (fun hc => ?_) (fun hc => ?_)
  · replace hF := (if_pos hc).symm.trans hF
    refine z_sub [2] rfl ?_
    have hF := Option.some.inj hF; subst hF
    exact kx _ rfl
  · replace hF := (if_neg hc).symm.trans hF
    refine z_iconst (n := 13) (v := 1) dX7_unlike_12 rfl (by decide) ?_
    refine z_istoreE (n := 15) (lv' := [(4, .int 1), (0, .ref 1860), (1, .int a0), (2, .int v2_1), (3, .int v3_2)]) dX7_unlike_13 rfl rfl (by decide) rfl ?_
    refine z_iconst (n := 16) (v := 0) dX7_unlike_15 rfl (by decide) ?_
    refine z_istoreE (n := 18) (lv' := [(5, .int 0), (4, .int 1), (0, .ref 1860), (1, .int a0), (2, .int v2_1), (3, .int v3_2)]) dX7_unlike_16 rfl rfl (by decide) rfl ?_
    refine z_sub [2, 3, 4, 5, 1, 0] rfl ?_
    obtain ⟨t_21, e_12, hF⟩ := zb1_some hF
    obtain ⟨v4_11, rfl⟩ : ∃ z, z = t_21 := ⟨_, rfl⟩
    have H_22 : zW l G MX7_unlike 0 0 0 0 68 [(0, .ref 1860), (1, .int a0), (2, .int v2_1), (3, .int v3_2), (4, .int v4_11)] [] K F I L Q := by
      refine z_iload_n (n := 69) dX7_unlike_68 rfl 2 rfl rfl ?_
      refine z_iload (n := 71) dX7_unlike_69 rfl 4 rfl ?_
      obtain ⟨k_14, e_15, hF⟩ := zlet_ob hF
      have H_16 : ∀ (w_13 : Int32), k_14 w_13 = some r → zW l G MX7_unlike 0 0 0 0 79 [(0, .ref 1860), (1, .int a0), (3, .int v3_2)] [.int w_13, .int v2_1] K F I L Q := by
        intro w_13 hF
        subst e_15
        dsimp only at hF
        refine z_iadd (n := 80) dX7_unlike_79 rfl ?_
        obtain ⟨v2_17, e_18, hF⟩ := zlet_ob hF
        refine z_istore_nE (n := 81) (lv' := [(2, .int v2_17), (0, .ref 1860), (1, .int a0), (3, .int v3_2)]) dX7_unlike_80 rfl e_18 rfl (by decide) rfl ?_
        obtain ⟨v3_19, e_20, hF⟩ := zlet_ob hF
        refine z_iincE (n := 84) (w := 1) (v := v3_19) (lv' := [(3, .int v3_19), (2, .int v2_17), (0, .ref 1860), (1, .int a0)]) dX7_unlike_81 rfl 3 rfl (by decide) e_20 (by decide) rfl ?_
        refine z_goto (t := 4) dX7_unlike_84 (by decide) ?_
        refine z_sub [2, 3, 1, 0] rfl ?_
        have hF := Option.some.inj hF; subst hF
        exact kl _ _ rfl
      clear e_15
      refine z_if_eq (n := 74) (t := 78) dX7_unlike_71 rfl (by decide) (fun hc => ?_) (fun hc => ?_)
      · replace hF := (if_pos hc).symm.trans hF
        refine z_iconst (n := 79) (v := 0) dX7_unlike_78 rfl (by decide) ?_
        refine z_sub [0, 1, 3] rfl ?_
        exact H_16 _ hF
      · replace hF := (if_neg hc).symm.trans hF
        refine z_iconst (n := 75) (v := 1) dX7_unlike_74 rfl (by decide) ?_
        refine z_goto (t := 79) dX7_unlike_75 (by decide) ?_
        refine z_sub [0, 1, 3] rfl ?_
        exact H_16 _ hF
    refine zloop_ind (P := fun s : Int32 × Int32 => zW l G MX7_unlike 0 0 0 0 18 [(0, .ref 1860), (1, .int a0), (2, .int v2_1), (3, .int v3_2), (4, .int s.1), (5, .int s.2)] [] K F I L Q) (fun s r hb kl kr => ?_) e_12
    exact W_X7_unlike_L18 (a0 := a0) htr hM hb (fun z0 z1 e => kl _ e) (fun y0 e => by cases kr _ e; exact H_22)
set_option maxHeartbeats 1000000 in
theorem C_X7_unlike {l : Launch} {G : zGt} (htr : l.stackTraces = false) {K : zKd} {F : zFd} {L : zLd} {a0 : Int32} (hM : zMLay K F) {I : zId} {r : Int32} (hF : F_X7_unlike a0 I = some r) : zMet l G yX7_unlike (ws_ yX7_unlike cX7_unlike 6 (some .int)) 0 0 0 0 [.ref 1860, .int a0] K F I L (zQe (.inl (some (.int r))) K F I L) := by
  refine zMet.of (by decide +kernel) htr (Nat.le_of_ble_eq_true rfl) ?_
  change zW l G MX7_unlike 0 0 0 0 0 [(0, .ref 1860), (1, .int a0)] [] K F I L (zQe (.inl (some (.int r))) K F I L)
  unfold F_X7_unlike at hF
  refine z_iconst (n := 1) (v := 0) dX7_unlike_0 rfl (by decide) ?_
  refine z_istore_nE (n := 2) (lv' := [(2, .int 0), (0, .ref 1860), (1, .int a0)]) dX7_unlike_1 rfl rfl rfl (by decide) rfl ?_
  refine z_iconst (n := 3) (v := 0) dX7_unlike_2 rfl (by decide) ?_
  refine z_istore_nE (n := 4) (lv' := [(3, .int 0), (2, .int 0), (0, .ref 1860), (1, .int a0)]) dX7_unlike_3 rfl rfl rfl (by decide) rfl ?_
  refine z_sub [2, 3, 1, 0] rfl ?_
  obtain ⟨t_25, e_24, hF⟩ := zb1_some hF
  obtain ⟨v2_23, rfl⟩ : ∃ z, z = t_25 := ⟨_, rfl⟩
  have H_26 : zW l G MX7_unlike 0 0 0 0 87 [(2, .int v2_23)] [] K F I L (zQe (.inl (some (.int r))) K F I L) := by
    refine z_iload_n (n := 88) dX7_unlike_87 rfl 0 rfl rfl ?_
    have hF := Option.some.inj hF; subst hF
    exact z_iret dX7_unlike_88 rfl rfl ⟨rfl, rfl, rfl, rfl, rfl⟩
  refine zloop_ind (P := fun s : Int32 × Int32 => zW l G MX7_unlike 0 0 0 0 4 [(0, .ref 1860), (1, .int a0), (2, .int s.1), (3, .int s.2)] [] K F I L (zQe (.inl (some (.int r))) K F I L)) (fun s r hb kl kr => ?_) e_24
  exact W_X7_unlike_L4 (a0 := a0) htr hM hb (fun z0 z1 e => kl _ e) (fun y0 e => by cases kr _ e; exact H_26)
theorem hcee_X7_unlike : zCee yX7_unlike RX7 1 := ⟨rfl, by decide +kernel, by decide +kernel, by decide +kernel⟩
abbrev MX7_look : zM := (RX7, cX7_look, 6, (some .int), "look", [])
noncomputable def F_X7_look_L84 (v2_10 : Int32) (v5_24 : Int32) (I_25 : zId) : Option ((Int32 × zId) ⊕ (zId)) := if 6 ≤ v5_24 then some (.inr (I_25)) else zg (zin v5_24 6) (zg (zin (((6 : Int32) * v2_10) + v5_24) 1080) (zlet (zu I_25 1895 ((((6 : Int32) * v2_10) + v5_24).toNatClampNeg) (I_25 1880 v5_24.toNatClampNeg)) (fun I_28 => zlet (v5_24 + 1) (fun v5_30 => some (.inl (v5_30, I_28))))))
noncomputable def F_X7_look_L35 (v2_10 : Int32) (I_11 : zId) : Option ((Int32 × zId) ⊕ (zId)) := if (I_11 1860 52) ≤ v2_10 then some (.inr (I_11)) else zg (zin v2_10 180) (zlet ((I_11 1894 v2_10.toNatClampNeg) / 100) (fun v3_13 => zg (zin v3_13 12) (zlet (I_11 1868 v3_13.toNatClampNeg) (fun v4_16 => zg (zin v2_10 180) (zg (zin v3_13 12) (zlet (zu I_11 1868 v3_13.toNatClampNeg ((I_11 1894 v2_10.toNatClampNeg) - (I_11 1894 v2_10.toNatClampNeg) / 100 * 100)) (fun I_20 => zb1 (F_X7_goOn 5 I_20) (fun I_23 => zb1 (zloop (fun s : Int32 × zId => F_X7_look_L84 v2_10 s.1 s.2) (0, I_23)) (fun I_32 => zg (zin v3_13 12) (zlet (zu I_32 1868 v3_13.toNatClampNeg v4_16) (fun I_35 => zb1 (F_X7_unpack 1886 57 0 I_35) (fun I_38 => zlet (v2_10 + 1) (fun v2_39 => some (.inl (v2_39, I_38)))))))))))))))
noncomputable def F_X7_look_L146 (I_43 : zId) (v2_45 : Int32) (v3_46 : Int32) (v4_47 : Int32) : Option ((Int32 × Int32 × Int32) ⊕ (Int32 × Int32)) := if (I_43 1862 2) ≤ v4_47 then some (.inr ((v2_45, v3_46))) else zb1 (F_X7_unlike v4_47 I_43) (fun x_49 => if v3_46 < x_49 then zlet (v4_47 + 1) (fun v4_50 => some (.inl (v4_47, x_49, v4_50))) else zlet (v4_47 + 1) (fun v4_52 => some (.inl (v2_45, v3_46, v4_52))))
noncomputable def F_X7_look (a0 : Int32) (I : zId) : Option (Int32 × zId) := zlet (zu I 1860 1 0) (fun I_1 => if a0 < 0 then zb2 (F_X7_fail 1 I_1) (fun x_4 I_5 => some (x_4, I_5)) else if a0 ≤ 1 then zb1 (F_X7_tellFits I_1) (fun I_7 => zb1 (F_X7_pack 1886 57 0 I_7) (fun I_9 => zb1 (zloop (fun s : Int32 × zId => F_X7_look_L35 s.1 s.2) (0, I_9)) (fun I_43 => zb1 (zloop (fun s : Int32 × Int32 × Int32 => F_X7_look_L146 I_43 s.1 s.2.1 s.2.2) ((-1), 0, 0)) (zn2 (fun v2_54 v3_55 => if ¬ a0 = 0 then some (v3_55, I_43) else some (v2_54, I_43)))))) else zb2 (F_X7_fail 1 I_1) (fun x_62 I_63 => some (x_62, I_63)))
set_option maxHeartbeats 1000000 in
theorem W_X7_look_L84 {l : Launch} {G : zGt} (htr : l.stackTraces = false) {K : zKd} {F : zFd} {L : zLd} {Q : zQt} {a0 : Int32} {v2_10 : Int32} {v3_13 : Int32} {v4_16 : Int32} {v5_24 : Int32} {I_25 : zId} (hM : zMLay K F) {r : (Int32 × zId) ⊕ (zId)} (hF : F_X7_look_L84 v2_10 v5_24 I_25 = some r) (kl : ∀ (z0 : Int32) (z1 : zId), r = .inl (z0, z1) → zW l G MX7_look 7 159 0 0 84 [(0, .ref 1860), (1, .int a0), (2, .int v2_10), (3, .int v3_13), (4, .int v4_16), (5, .int z0)] [] K F z1 L Q) (kx : ∀ (y0 : zId), r = .inr y0 → zW l G MX7_look 7 159 0 0 116 [(0, .ref 1860), (1, .int a0), (2, .int v2_10), (3, .int v3_13), (4, .int v4_16)] [] K F y0 L Q)  : zW l G MX7_look 7 159 0 0 84 [(0, .ref 1860), (1, .int a0), (2, .int v2_10), (3, .int v3_13), (4, .int v4_16), (5, .int v5_24)] [] K F I_25 L Q := by
  unfold F_X7_look_L84 at hF
  refine z_iload (n := 86) dX7_look_84 rfl 5 rfl ?_
  refine z_bipush (n := 88) (v := 6) dX7_look_86 rfl (by decide) ?_
  refine z_icmp_ge (n := 91) (t := 116) dX7_look_88 rfl (by decide) (fun hc => ?_) (fun hc => ?_)
  · replace hF := (if_pos hc).symm.trans hF
    refine z_sub [0, 1, 2, 3, 4] rfl ?_
    have hF := Option.some.inj hF; subst hF
    exact kx _ rfl
  · replace hF := (if_neg hc).symm.trans hF
    refine z_aload_n (n := 92) dX7_look_91 rfl 0 rfl rfl ?_
    refine z_getRS (n := 95) dX7_look_92 rfl zok6 fX7_129 rfl hM.1 (Or.inl (by decide)) (mF_51 hM) ?_
    refine z_bipush (n := 97) (v := 6) dX7_look_95 rfl (by decide) ?_
    refine z_iload_n (n := 98) dX7_look_97 rfl 2 rfl rfl ?_
    refine z_imul (n := 99) dX7_look_98 rfl ?_
    refine z_iload (n := 101) dX7_look_99 rfl 5 rfl ?_
    refine z_iadd (n := 102) dX7_look_101 rfl ?_
    refine z_aload_n (n := 103) dX7_look_102 rfl 0 rfl rfl ?_
    refine z_getRS (n := 106) dX7_look_103 rfl zok6 fX7_86 rfl hM.1 (Or.inl (by decide)) (mF_30 hM) ?_
    refine z_iload (n := 108) dX7_look_106 rfl 5 rfl ?_
    obtain ⟨h_26, hF⟩ := zg_some hF
    refine z_ialdK (n := 109) v5_24.toNatClampNeg rfl dX7_look_108 rfl (mK_30 hM) (zin_ok h_26) ?_
    obtain ⟨h_27, hF⟩ := zg_some hF
    obtain ⟨I_28, e_29, hF⟩ := zlet_ob hF
    refine z_iastK (n := 110) ((((6 : Int32) * v2_10) + v5_24).toNatClampNeg) rfl dX7_look_109 rfl (mK_51 hM) (by decide) (zin_ok h_27) e_29 ?_
    obtain ⟨v5_30, e_31, hF⟩ := zlet_ob hF
    refine z_iincE (n := 113) (w := 1) (v := v5_30) (lv' := [(5, .int v5_30), (0, .ref 1860), (1, .int a0), (2, .int v2_10), (3, .int v3_13), (4, .int v4_16)]) dX7_look_110 rfl 5 rfl (by decide) e_31 (by decide) rfl ?_
    refine z_goto (t := 84) dX7_look_113 (by decide) ?_
    refine z_sub [1, 2, 3, 4, 5, 0] rfl ?_
    have hF := Option.some.inj hF; subst hF
    exact kl _ _ rfl
set_option maxHeartbeats 1000000 in
theorem W_X7_look_L35 {l : Launch} {G : zGt} (htr : l.stackTraces = false) {K : zKd} {F : zFd} {L : zLd} {Q : zQt} {a0 : Int32} {v2_10 : Int32} {I_11 : zId} (hM : zMLay K F) {r : (Int32 × zId) ⊕ (zId)} (hF : F_X7_look_L35 v2_10 I_11 = some r) (kl : ∀ (z0 : Int32) (z1 : zId), r = .inl (z0, z1) → zW l G MX7_look 7 159 0 0 35 [(0, .ref 1860), (1, .int a0), (2, .int z0)] [] K F z1 L Q) (kx : ∀ (y0 : zId), r = .inr y0 → zW l G MX7_look 7 159 0 0 139 [(0, .ref 1860), (1, .int a0)] [] K F y0 L Q)  : zW l G MX7_look 7 159 0 0 35 [(0, .ref 1860), (1, .int a0), (2, .int v2_10)] [] K F I_11 L Q := by
  unfold F_X7_look_L35 at hF
  refine z_iload_n (n := 36) dX7_look_35 rfl 2 rfl rfl ?_
  refine z_aload_n (n := 37) dX7_look_36 rfl 0 rfl rfl ?_
  refine z_getI (n := 40) dX7_look_37 rfl zok6 fX7_434 rfl hM.1 (Or.inl (by decide)) ?_
  refine z_icmp_ge (n := 43) (t := 139) dX7_look_40 rfl (by decide) (fun hc => ?_) (fun hc => ?_)
  · replace hF := (if_pos hc).symm.trans hF
    refine z_sub [0, 1] rfl ?_
    have hF := Option.some.inj hF; subst hF
    exact kx _ rfl
  · replace hF := (if_neg hc).symm.trans hF
    refine z_aload_n (n := 44) dX7_look_43 rfl 0 rfl rfl ?_
    refine z_getRS (n := 47) dX7_look_44 rfl zok6 fX7_126 rfl hM.1 (Or.inl (by decide)) (mF_50 hM) ?_
    refine z_iload_n (n := 48) dX7_look_47 rfl 2 rfl rfl ?_
    obtain ⟨h_12, hF⟩ := zg_some hF
    refine z_ialdK (n := 49) v2_10.toNatClampNeg rfl dX7_look_48 rfl (mK_50 hM) (zin_ok h_12) ?_
    refine z_bipush (n := 51) (v := 100) dX7_look_49 rfl (by decide) ?_
    refine z_idiv (n := 52) dX7_look_51 rfl (by decide) ?_
    obtain ⟨v3_13, e_14, hF⟩ := zlet_ob hF
    refine z_istore_nE (n := 53) (lv' := [(3, .int v3_13), (0, .ref 1860), (1, .int a0), (2, .int v2_10)]) dX7_look_52 rfl e_14 rfl (by decide) rfl ?_
    refine z_aload_n (n := 54) dX7_look_53 rfl 1 rfl rfl ?_
    refine z_getRS (n := 57) dX7_look_54 rfl zok6 fX7_48 rfl hM.1 (Or.inl (by decide)) (mF_8 hM) ?_
    refine z_iload_n (n := 58) dX7_look_57 rfl 0 rfl rfl ?_
    obtain ⟨h_15, hF⟩ := zg_some hF
    refine z_ialdK (n := 59) v3_13.toNatClampNeg rfl dX7_look_58 rfl (mK_8 hM) (zin_ok h_15) ?_
    obtain ⟨v4_16, e_17, hF⟩ := zlet_ob hF
    refine z_istoreE (n := 61) (lv' := [(4, .int v4_16), (3, .int v3_13), (0, .ref 1860), (1, .int a0), (2, .int v2_10)]) dX7_look_59 rfl e_17 (by decide) rfl ?_
    refine z_aload_n (n := 62) dX7_look_61 rfl 2 rfl rfl ?_
    refine z_getRS (n := 65) dX7_look_62 rfl zok6 fX7_48 rfl hM.1 (Or.inl (by decide)) (mF_8 hM) ?_
    refine z_iload_n (n := 66) dX7_look_65 rfl 1 rfl rfl ?_
    refine z_aload_n (n := 67) dX7_look_66 rfl 2 rfl rfl ?_
    refine z_getRS (n := 70) dX7_look_67 rfl zok6 fX7_126 rfl hM.1 (Or.inl (by decide)) (mF_50 hM) ?_
    refine z_iload_n (n := 71) dX7_look_70 rfl 4 rfl rfl ?_
    obtain ⟨h_18, hF⟩ := zg_some hF
    refine z_ialdK (n := 72) v2_10.toNatClampNeg rfl dX7_look_71 rfl (mK_50 hM) (zin_ok h_18) ?_
    refine z_bipush (n := 74) (v := 100) dX7_look_72 rfl (by decide) ?_
    refine z_irem (n := 75) dX7_look_74 rfl (by decide) ?_
    obtain ⟨h_19, hF⟩ := zg_some hF
    obtain ⟨I_20, e_21, hF⟩ := zlet_ob hF
    refine z_iastK (n := 76) v3_13.toNatClampNeg rfl dX7_look_75 rfl (mK_8 hM) (by decide) (zin_ok h_19) e_21 ?_
    refine z_aload_n (n := 77) dX7_look_76 rfl 2 rfl rfl ?_
    refine z_iconst (n := 78) (v := 5) dX7_look_77 rfl (by decide) ?_
    obtain ⟨I_23, c_22, hF⟩ := zb1_some hF
    refine z_cV (n := 81) (st := []) (C_X7_goOn htr hM c_22) dX7_look_78 rfl (lw_V q2085 q2087 qs85 q131 q2088) hcee_X7_goOn rfl (by decide) hM.1 rfl rfl rfl (Nat.le_of_ble_eq_true rfl) (Nat.le_refl _) (Nat.le_refl _) ?_
    refine z_iconst (n := 82) (v := 0) dX7_look_81 rfl (by decide) ?_
    refine z_istoreE (n := 84) (lv' := [(5, .int 0), (4, .int v4_16), (3, .int v3_13), (0, .ref 1860), (1, .int a0), (2, .int v2_10)]) dX7_look_82 rfl rfl (by decide) rfl ?_
    refine z_sub [3, 4, 5, 2, 1, 0] rfl ?_
    obtain ⟨t_41, e_33, hF⟩ := zb1_some hF
    obtain ⟨I_32, rfl⟩ : ∃ z, z = t_41 := ⟨_, rfl⟩
    have H_42 : zW l G MX7_look 7 159 0 0 116 [(0, .ref 1860), (1, .int a0), (2, .int v2_10), (3, .int v3_13), (4, .int v4_16)] [] K F I_32 L Q := by
      refine z_aload_n (n := 117) dX7_look_116 rfl 0 rfl rfl ?_
      refine z_getRS (n := 120) dX7_look_117 rfl zok6 fX7_48 rfl hM.1 (Or.inl (by decide)) (mF_8 hM) ?_
      refine z_iload_n (n := 121) dX7_look_120 rfl 3 rfl rfl ?_
      refine z_iload (n := 123) dX7_look_121 rfl 4 rfl ?_
      obtain ⟨h_34, hF⟩ := zg_some hF
      obtain ⟨I_35, e_36, hF⟩ := zlet_ob hF
      refine z_iastK (n := 124) v3_13.toNatClampNeg rfl dX7_look_123 rfl (mK_8 hM) (by decide) (zin_ok h_34) e_36 ?_
      refine z_aload_n (n := 125) dX7_look_124 rfl 0 rfl rfl ?_
      refine z_aload_n (n := 126) dX7_look_125 rfl 0 rfl rfl ?_
      refine z_getRS (n := 129) dX7_look_126 rfl zok6 fX7_102 rfl hM.1 (Or.inl (by decide)) (mF_42 hM) ?_
      refine z_iconst (n := 130) (v := 0) dX7_look_129 rfl (by decide) ?_
      obtain ⟨I_38, c_37, hF⟩ := zb1_some hF
      refine z_cV (n := 133) (st := []) (C_X7_unpack htr hM (mK_42 hM) (by decide) c_37) dX7_look_130 rfl (lw_V q2135 q2137 qs91 q131 q2138) hcee_X7_unpack rfl (by decide) hM.1 rfl rfl rfl (Nat.le_of_ble_eq_true rfl) (Nat.le_refl _) (Nat.le_refl _) ?_
      obtain ⟨v2_39, e_40, hF⟩ := zlet_ob hF
      refine z_iincE (n := 136) (w := 1) (v := v2_39) (lv' := [(2, .int v2_39), (0, .ref 1860), (1, .int a0), (3, .int v3_13), (4, .int v4_16)]) dX7_look_133 rfl 2 rfl (by decide) e_40 (by decide) rfl ?_
      refine z_goto (t := 35) dX7_look_136 (by decide) ?_
      refine z_sub [1, 2, 0] rfl ?_
      have hF := Option.some.inj hF; subst hF
      exact kl _ _ rfl
    refine zloop_ind (P := fun s : Int32 × zId => zW l G MX7_look 7 159 0 0 84 [(0, .ref 1860), (1, .int a0), (2, .int v2_10), (3, .int v3_13), (4, .int v4_16), (5, .int s.1)] [] K F s.2 L Q) (fun s r hb kl kr => ?_) e_33
    exact W_X7_look_L84 (a0 := a0) htr hM hb (fun z0 z1 e => kl _ e) (fun y0 e => by cases kr _ e; exact H_42)
set_option maxHeartbeats 1000000 in
theorem W_X7_look_L146 {l : Launch} {G : zGt} (htr : l.stackTraces = false) {K : zKd} {F : zFd} {L : zLd} {Q : zQt} {a0 : Int32} {I_43 : zId} {v2_45 : Int32} {v3_46 : Int32} {v4_47 : Int32} (hM : zMLay K F) {r : (Int32 × Int32 × Int32) ⊕ (Int32 × Int32)} (hF : F_X7_look_L146 I_43 v2_45 v3_46 v4_47 = some r) (kl : ∀ (z0 : Int32) (z1 : Int32) (z2 : Int32), r = .inl (z0, z1, z2) → zW l G MX7_look 7 159 0 0 146 [(0, .ref 1860), (1, .int a0), (2, .int z0), (3, .int z1), (4, .int z2)] [] K F I_43 L Q) (kx : ∀ (y0 : Int32) (y1 : Int32), r = .inr (y0, y1) → zW l G MX7_look 7 159 0 0 186 [(1, .int a0), (2, .int y0), (3, .int y1)] [] K F I_43 L Q)  : zW l G MX7_look 7 159 0 0 146 [(0, .ref 1860), (1, .int a0), (2, .int v2_45), (3, .int v3_46), (4, .int v4_47)] [] K F I_43 L Q := by
  unfold F_X7_look_L146 at hF
  refine z_iload (n := 148) dX7_look_146 rfl 4 rfl ?_
  refine z_aload_n (n := 149) dX7_look_148 rfl 0 rfl rfl ?_
  refine z_getRS (n := 152) dX7_look_149 rfl zok6 fX7_29 rfl hM.1 (Or.inl (by decide)) (mF_2 hM) ?_
  refine z_iconst (n := 153) (v := 2) dX7_look_152 rfl (by decide) ?_
  refine z_ialdK (n := 154) 2 (by decide) dX7_look_153 rfl (mK_2 hM) (zin_ok (i := 2) (n := 16) rfl) ?_
  refine z_icmp_ge (n := 157) (t := 186) dX7_look_154 rfl (by decide) (fun hc => ?_) (fun hc => ?_)
  · replace hF := (if_pos hc).symm.trans hF
    refine z_sub [1, 2, 3] rfl ?_
    have hF := Option.some.inj hF; subst hF
    exact kx _ _ rfl
  · replace hF := (if_neg hc).symm.trans hF
    refine z_aload_n (n := 158) dX7_look_157 rfl 0 rfl rfl ?_
    refine z_iload (n := 160) dX7_look_158 rfl 4 rfl ?_
    obtain ⟨x_49, c_48, hF⟩ := zb1_some hF
    refine z_cV (n := 163) (st := []) (C_X7_unlike htr hM c_48) dX7_look_160 rfl (lw_V q2250 q2252 qs100 q131 q2253) hcee_X7_unlike rfl (by decide) hM.1 rfl rfl rfl (Nat.le_of_ble_eq_true rfl) (Nat.le_refl _) (Nat.le_refl _) ?_
    refine z_istoreE (n := 165) (lv' := [(5, .int x_49), (0, .ref 1860), (1, .int a0), (2, .int v2_45), (3, .int v3_46), (4, .int v4_47)]) dX7_look_163 rfl rfl (by decide) rfl ?_
    refine z_iload (n := 167) dX7_look_165 rfl 0 rfl ?_
    refine z_iload_n (n := 168) dX7_look_167 rfl 4 rfl rfl ?_
    refine z_icmp_gt (n := 171) (t := 174) dX7_look_168 rfl (by decide) (fun hc => ?_) (fun hc => ?_)
    · replace hF := (if_pos hc).symm.trans hF
      refine z_iload (n := 176) dX7_look_174 rfl 5 rfl ?_
      refine z_istore_nE (n := 177) (lv' := [(2, .int v4_47), (5, .int x_49), (0, .ref 1860), (1, .int a0), (3, .int v3_46), (4, .int v4_47)]) dX7_look_176 rfl rfl rfl (by decide) rfl ?_
      refine z_iload (n := 179) dX7_look_177 rfl 1 rfl ?_
      refine z_istore_nE (n := 180) (lv' := [(3, .int x_49), (2, .int v4_47), (5, .int x_49), (0, .ref 1860), (1, .int a0), (4, .int v4_47)]) dX7_look_179 rfl rfl rfl (by decide) rfl ?_
      obtain ⟨v4_50, e_51, hF⟩ := zlet_ob hF
      refine z_iincE (n := 183) (w := 1) (v := v4_50) (lv' := [(4, .int v4_50), (3, .int x_49), (2, .int v4_47), (5, .int x_49), (0, .ref 1860), (1, .int a0)]) dX7_look_180 rfl 5 rfl (by decide) e_51 (by decide) rfl ?_
      refine z_goto (t := 146) dX7_look_183 (by decide) ?_
      refine z_sub [4, 5, 2, 1, 0] rfl ?_
      have hF := Option.some.inj hF; subst hF
      exact kl _ _ _ rfl
    · replace hF := (if_neg hc).symm.trans hF
      refine z_goto (t := 180) dX7_look_171 (by decide) ?_
      obtain ⟨v4_52, e_53, hF⟩ := zlet_ob hF
      refine z_iincE (n := 183) (w := 1) (v := v4_52) (lv' := [(4, .int v4_52), (5, .int x_49), (0, .ref 1860), (1, .int a0), (2, .int v2_45), (3, .int v3_46)]) dX7_look_180 rfl 5 rfl (by decide) e_53 (by decide) rfl ?_
      refine z_goto (t := 146) dX7_look_183 (by decide) ?_
      refine z_sub [2, 3, 4, 5, 0] rfl ?_
      have hF := Option.some.inj hF; subst hF
      exact kl _ _ _ rfl
set_option maxHeartbeats 1000000 in
theorem C_X7_look {l : Launch} {G : zGt} (htr : l.stackTraces = false) {K : zKd} {F : zFd} {L : zLd} {a0 : Int32} (hM : zMLay K F) {I : zId} {r : Int32 × zId} (hF : F_X7_look a0 I = some r) : zMet l G yX7_look (ws_ yX7_look cX7_look 6 (some .int)) 7 159 0 0 [.ref 1860, .int a0] K F I L (zQe (.inl (some (.int r.1))) K F r.2 L) := by
  refine zMet.of (by decide +kernel) htr (Nat.le_of_ble_eq_true rfl) ?_
  change zW l G MX7_look 7 159 0 0 0 [(0, .ref 1860), (1, .int a0)] [] K F I L (zQe (.inl (some (.int r.1))) K F r.2 L)
  unfold F_X7_look at hF
  refine z_aload_n (n := 1) dX7_look_0 rfl 0 rfl rfl ?_
  refine z_iconst (n := 2) (v := 0) dX7_look_1 rfl (by decide) ?_
  obtain ⟨I_1, e_2, hF⟩ := zlet_ob hF
  refine z_putIE (n := 5) dX7_look_2 rfl zok6 fX7_150 (Or.inl ⟨_, rfl, rfl⟩) rfl ⟨rfl, rfl⟩ hM.1 (by decide) e_2 ?_
  refine z_iload_n (n := 6) dX7_look_5 rfl 1 rfl rfl ?_
  refine z_if_lt (n := 9) (t := 14) dX7_look_6 rfl (by decide) (fun hc => ?_) (fun hc => ?_)
  · replace hF := (if_pos hc).symm.trans hF
    refine z_aload_n (n := 15) dX7_look_14 rfl 0 rfl rfl ?_
    refine z_iconst (n := 16) (v := 1) dX7_look_15 rfl (by decide) ?_
    obtain ⟨x_4, I_5, c_3, hF⟩ := zb2_some hF
    refine z_cV (n := 19) (st := []) (C_X7_fail htr hM c_3) dX7_look_16 rfl (lw_V q1879 q1881 qs48 q131 q1882) hcee_X7_fail rfl (by decide) hM.1 rfl rfl rfl (Nat.le_of_ble_eq_true rfl) (Nat.le_refl _) (Nat.le_refl _) ?_
    have hF := Option.some.inj hF; subst hF
    exact z_iret dX7_look_19 rfl rfl ⟨rfl, rfl, rfl, rfl, rfl⟩
  · replace hF := (if_neg hc).symm.trans hF
    refine z_iload_n (n := 10) dX7_look_9 rfl 1 rfl rfl ?_
    refine z_iconst (n := 11) (v := 1) dX7_look_10 rfl (by decide) ?_
    refine z_icmp_le (n := 14) (t := 20) dX7_look_11 rfl (by decide) (fun hc => ?_) (fun hc => ?_)
    · replace hF := (if_pos hc).symm.trans hF
      refine z_aload_n (n := 21) dX7_look_20 rfl 0 rfl rfl ?_
      obtain ⟨I_7, c_6, hF⟩ := zb1_some hF
      refine z_cV (n := 24) (st := []) (C_X7_tellFits htr hM c_6) dX7_look_21 rfl (lw_V q2242 q2244 qs99 q131 q2245) hcee_X7_tellFits rfl (by decide) hM.1 rfl rfl rfl (Nat.le_of_ble_eq_true rfl) (Nat.le_refl _) (Nat.le_refl _) ?_
      refine z_aload_n (n := 25) dX7_look_24 rfl 0 rfl rfl ?_
      refine z_aload_n (n := 26) dX7_look_25 rfl 0 rfl rfl ?_
      refine z_getRS (n := 29) dX7_look_26 rfl zok6 fX7_102 rfl hM.1 (Or.inl (by decide)) (mF_42 hM) ?_
      refine z_iconst (n := 30) (v := 0) dX7_look_29 rfl (by decide) ?_
      obtain ⟨I_9, c_8, hF⟩ := zb1_some hF
      refine z_cV (n := 33) (st := []) (C_X7_pack htr hM (mK_42 hM) (by decide) c_8) dX7_look_30 rfl (lw_V q2081 q2083 qs84 q131 q2084) hcee_X7_pack rfl (by decide) hM.1 rfl rfl rfl (Nat.le_of_ble_eq_true rfl) (Nat.le_refl _) (Nat.le_refl _) ?_
      refine z_iconst (n := 34) (v := 0) dX7_look_33 rfl (by decide) ?_
      refine z_istore_nE (n := 35) (lv' := [(2, .int 0), (0, .ref 1860), (1, .int a0)]) dX7_look_34 rfl rfl rfl (by decide) rfl ?_
      refine z_sub [1, 2, 0] rfl ?_
      obtain ⟨t_59, e_44, hF⟩ := zb1_some hF
      obtain ⟨I_43, rfl⟩ : ∃ z, z = t_59 := ⟨_, rfl⟩
      have H_60 : zW l G MX7_look 7 159 0 0 139 [(0, .ref 1860), (1, .int a0)] [] K F I_43 L (zQe (.inl (some (.int r.1))) K F r.2 L) := by
        refine z_iconst (n := 140) (v := (-1)) dX7_look_139 rfl (by decide) ?_
        refine z_istore_nE (n := 141) (lv' := [(2, .int (-1)), (0, .ref 1860), (1, .int a0)]) dX7_look_140 rfl rfl rfl (by decide) rfl ?_
        refine z_iconst (n := 142) (v := 0) dX7_look_141 rfl (by decide) ?_
        refine z_istore_nE (n := 143) (lv' := [(3, .int 0), (2, .int (-1)), (0, .ref 1860), (1, .int a0)]) dX7_look_142 rfl rfl rfl (by decide) rfl ?_
        refine z_iconst (n := 144) (v := 0) dX7_look_143 rfl (by decide) ?_
        refine z_istoreE (n := 146) (lv' := [(4, .int 0), (3, .int 0), (2, .int (-1)), (0, .ref 1860), (1, .int a0)]) dX7_look_144 rfl rfl (by decide) rfl ?_
        refine z_sub [3, 4, 2, 1, 0] rfl ?_
        obtain ⟨t_57, e_56, hF⟩ := zb1_some hF
        obtain ⟨v2_54, v3_55⟩ := t_57
        dsimp only [zn2] at hF
        have H_58 : zW l G MX7_look 7 159 0 0 186 [(1, .int a0), (2, .int v2_54), (3, .int v3_55)] [] K F I_43 L (zQe (.inl (some (.int r.1))) K F r.2 L) := by
          refine z_iload_n (n := 187) dX7_look_186 rfl 0 rfl rfl ?_
          refine z_if_ne (n := 190) (t := 194) dX7_look_187 rfl (by decide) (fun hc => ?_) (fun hc => ?_)
          · replace hF := (if_pos hc).symm.trans hF
            refine z_iload_n (n := 195) dX7_look_194 rfl 2 rfl rfl ?_
            have hF := Option.some.inj hF; subst hF
            exact z_iret dX7_look_195 rfl rfl ⟨rfl, rfl, rfl, rfl, rfl⟩
          · replace hF := (if_neg hc).symm.trans hF
            refine z_iload_n (n := 191) dX7_look_190 rfl 1 rfl rfl ?_
            refine z_goto (t := 195) dX7_look_191 (by decide) ?_
            have hF := Option.some.inj hF; subst hF
            exact z_iret dX7_look_195 rfl rfl ⟨rfl, rfl, rfl, rfl, rfl⟩
        refine zloop_ind (P := fun s : Int32 × Int32 × Int32 => zW l G MX7_look 7 159 0 0 146 [(0, .ref 1860), (1, .int a0), (2, .int s.1), (3, .int s.2.1), (4, .int s.2.2)] [] K F I_43 L (zQe (.inl (some (.int r.1))) K F r.2 L)) (fun s r hb kl kr => ?_) e_56
        exact W_X7_look_L146 (a0 := a0) htr hM hb (fun z0 z1 z2 e => kl _ e) (fun y0 y1 e => by cases kr _ e; exact H_58)
      refine zloop_ind (P := fun s : Int32 × zId => zW l G MX7_look 7 159 0 0 35 [(0, .ref 1860), (1, .int a0), (2, .int s.1)] [] K F s.2 L (zQe (.inl (some (.int r.1))) K F r.2 L)) (fun s r hb kl kr => ?_) e_44
      exact W_X7_look_L35 (a0 := a0) htr hM hb (fun z0 z1 e => kl _ e) (fun y0 e => by cases kr _ e; exact H_60)
    · replace hF := (if_neg hc).symm.trans hF
      refine z_aload_n (n := 15) dX7_look_14 rfl 0 rfl rfl ?_
      refine z_iconst (n := 16) (v := 1) dX7_look_15 rfl (by decide) ?_
      obtain ⟨x_62, I_63, c_61, hF⟩ := zb2_some hF
      refine z_cV (n := 19) (st := []) (C_X7_fail htr hM c_61) dX7_look_16 rfl (lw_V q1879 q1881 qs48 q131 q1882) hcee_X7_fail rfl (by decide) hM.1 rfl rfl rfl (Nat.le_of_ble_eq_true rfl) (Nat.le_refl _) (Nat.le_refl _) ?_
      have hF := Option.some.inj hF; subst hF
      exact z_iret dX7_look_19 rfl rfl ⟨rfl, rfl, rfl, rfl, rfl⟩
abbrev MX7_forget : zM := (RX7, cX7_forget, 1, none, "forget", [])
noncomputable def F_X7_forget (I : zId) : Option (zId) := zlet (zu I 1860 1 0) (fun I_1 => zlet (zu I_1 1860 38 0) (fun I_3 => some I_3))
set_option maxHeartbeats 1000000 in
theorem C_X7_forget {l : Launch} {G : zGt} (htr : l.stackTraces = false) {K : zKd} {F : zFd} {L : zLd} (hM : zMLay K F) {I : zId} {r : zId} (hF : F_X7_forget I = some r) : zMet l G yX7_forget (ws_ yX7_forget cX7_forget 1 none) 0 0 0 0 [.ref 1860] K F I L (zQe (.inl none) K F r L) := by
  refine zMet.of (by decide +kernel) htr (Nat.le_of_ble_eq_true rfl) ?_
  change zW l G MX7_forget 0 0 0 0 0 [(0, .ref 1860)] [] K F I L (zQe (.inl none) K F r L)
  unfold F_X7_forget at hF
  refine z_aload_n (n := 1) dX7_forget_0 rfl 0 rfl rfl ?_
  refine z_iconst (n := 2) (v := 0) dX7_forget_1 rfl (by decide) ?_
  obtain ⟨I_1, e_2, hF⟩ := zlet_ob hF
  refine z_putIE (n := 5) dX7_forget_2 rfl zok6 fX7_150 (Or.inl ⟨_, rfl, rfl⟩) rfl ⟨rfl, rfl⟩ hM.1 (by decide) e_2 ?_
  refine z_aload_n (n := 6) dX7_forget_5 rfl 0 rfl rfl ?_
  refine z_iconst (n := 7) (v := 0) dX7_forget_6 rfl (by decide) ?_
  obtain ⟨I_3, e_4, hF⟩ := zlet_ob hF
  refine z_putIE (n := 10) dX7_forget_7 rfl zok6 fX7_327 (Or.inl ⟨_, rfl, rfl⟩) rfl ⟨rfl, rfl⟩ hM.1 (by decide) e_4 ?_
  have hF := Option.some.inj hF; subst hF
  exact z_vret dX7_forget_10 rfl ⟨rfl, rfl, rfl, rfl, rfl⟩
abbrev MX7_gain : zM := (RX7, cX7_gain, 7, (some .int), "gain", [])
noncomputable def F_X7_gain (a0 : Int32) (a1 : Int32) (a2 : Int32) (a3 : Int32) (I : zId) : Option (Int32 × zId) := zg (zin a0 6) (zg (zin a2 6) (zb2 (F_X7_farOf (I 1871 a0.toNatClampNeg) (I 1878 a2.toNatClampNeg) I) (fun x_4 I_5 => if x_4 < 100000 then zlet (fun (w_6 : Int32) (I_7 : zId) => if w_6 ≤ x_4 then if ¬ w_6 = x_4 then some (0, I_7) else zg (zin a2 6) (some ((I_7 1880 a2.toNatClampNeg) / 2, I_7)) else zg (zin a2 6) (some (I_7 1880 a2.toNatClampNeg, I_7))) (fun k_8 => if ¬ a3 = a2 then k_8 100000 I_5 else zg (zin a1 6) (zg (zin a2 6) (zb2 (F_X7_farOf (I_5 1871 a1.toNatClampNeg) (I_5 1878 a2.toNatClampNeg) I_5) (fun x_16 I_17 => k_8 x_16 I_17)))) else some (0, I_5))))
set_option maxHeartbeats 1000000 in
theorem C_X7_gain {l : Launch} {G : zGt} (htr : l.stackTraces = false) {K : zKd} {F : zFd} {L : zLd} {a0 : Int32} {a1 : Int32} {a2 : Int32} {a3 : Int32} (hM : zMLay K F) {I : zId} {r : Int32 × zId} (hF : F_X7_gain a0 a1 a2 a3 I = some r) : zMet l G yX7_gain (ws_ yX7_gain cX7_gain 7 (some .int)) 3 70 0 0 [.ref 1860, .int a0, .int a1, .int a2, .int a3] K F I L (zQe (.inl (some (.int r.1))) K F r.2 L) := by
  refine zMet.of (by decide +kernel) htr (Nat.le_of_ble_eq_true rfl) ?_
  change zW l G MX7_gain 3 70 0 0 0 [(0, .ref 1860), (1, .int a0), (2, .int a1), (3, .int a2), (4, .int a3)] [] K F I L (zQe (.inl (some (.int r.1))) K F r.2 L)
  unfold F_X7_gain at hF
  refine z_aload_n (n := 1) dX7_gain_0 rfl 0 rfl rfl ?_
  refine z_aload_n (n := 2) dX7_gain_1 rfl 0 rfl rfl ?_
  refine z_getRS (n := 5) dX7_gain_2 rfl zok6 fX7_56 rfl hM.1 (Or.inl (by decide)) (mF_11 hM) ?_
  refine z_iload_n (n := 6) dX7_gain_5 rfl 1 rfl rfl ?_
  obtain ⟨h_1, hF⟩ := zg_some hF
  refine z_ialdK (n := 7) a0.toNatClampNeg rfl dX7_gain_6 rfl (mK_11 hM) (zin_ok h_1) ?_
  refine z_aload_n (n := 8) dX7_gain_7 rfl 0 rfl rfl ?_
  refine z_getRS (n := 11) dX7_gain_8 rfl zok6 fX7_80 rfl hM.1 (Or.inl (by decide)) (mF_28 hM) ?_
  refine z_iload_n (n := 12) dX7_gain_11 rfl 3 rfl rfl ?_
  obtain ⟨h_2, hF⟩ := zg_some hF
  refine z_ialdK (n := 13) a2.toNatClampNeg rfl dX7_gain_12 rfl (mK_28 hM) (zin_ok h_2) ?_
  obtain ⟨x_4, I_5, c_3, hF⟩ := zb2_some hF
  refine z_cV (n := 16) (st := []) (C_X7_farOf htr hM c_3) dX7_gain_13 rfl (lw_V q2188 q2190 qs94 q131 q2191) hcee_X7_farOf rfl (by decide) hM.1 rfl rfl rfl (Nat.le_of_ble_eq_true rfl) (Nat.le_refl _) (Nat.le_refl _) ?_
  refine z_istoreE (n := 18) (lv' := [(5, .int x_4), (0, .ref 1860), (1, .int a0), (2, .int a1), (3, .int a2), (4, .int a3)]) dX7_gain_16 rfl rfl (by decide) rfl ?_
  refine z_iload (n := 20) dX7_gain_18 rfl 0 rfl ?_
  refine z_ldc (n := 22) dX7_gain_20 rfl q1897 ?_
  refine z_icmp_lt (n := 25) (t := 27) dX7_gain_22 rfl (by decide) (fun hc => ?_) (fun hc => ?_)
  · replace hF := (if_pos hc).symm.trans hF
    refine z_iload (n := 29) dX7_gain_27 rfl 5 rfl ?_
    refine z_iload_n (n := 30) dX7_gain_29 rfl 4 rfl rfl ?_
    obtain ⟨k_8, e_9, hF⟩ := zlet_ob hF
    have H_10 : ∀ (w_6 : Int32) (I_7 : zId), k_8 w_6 I_7 = some r → zW l G MX7_gain 3 70 0 0 54 [(0, .ref 1860), (3, .int a2), (5, .int x_4)] [.int w_6] K F I_7 L (zQe (.inl (some (.int r.1))) K F r.2 L) := by
      intro w_6 I_7 hF
      subst e_9
      dsimp only at hF
      refine z_istoreE (n := 56) (lv' := [(6, .int w_6), (0, .ref 1860), (3, .int a2), (5, .int x_4)]) dX7_gain_54 rfl rfl (by decide) rfl ?_
      refine z_iload (n := 58) dX7_gain_56 rfl 0 rfl ?_
      refine z_iload (n := 60) dX7_gain_58 rfl 3 rfl ?_
      refine z_icmp_le (n := 63) (t := 72) dX7_gain_60 rfl (by decide) (fun hc => ?_) (fun hc => ?_)
      · replace hF := (if_pos hc).symm.trans hF
        refine z_iload (n := 74) dX7_gain_72 rfl 0 rfl ?_
        refine z_iload (n := 76) dX7_gain_74 rfl 3 rfl ?_
        refine z_icmp_ne (n := 79) (t := 90) dX7_gain_76 rfl (by decide) (fun hc => ?_) (fun hc => ?_)
        · replace hF := (if_pos hc).symm.trans hF
          refine z_iconst (n := 91) (v := 0) dX7_gain_90 rfl (by decide) ?_
          have hF := Option.some.inj hF; subst hF
          exact z_iret dX7_gain_91 rfl rfl ⟨rfl, rfl, rfl, rfl, rfl⟩
        · replace hF := (if_neg hc).symm.trans hF
          refine z_aload_n (n := 80) dX7_gain_79 rfl 1 rfl rfl ?_
          refine z_getRS (n := 83) dX7_gain_80 rfl zok6 fX7_86 rfl hM.1 (Or.inl (by decide)) (mF_30 hM) ?_
          refine z_iload_n (n := 84) dX7_gain_83 rfl 2 rfl rfl ?_
          obtain ⟨h_11, hF⟩ := zg_some hF
          refine z_ialdK (n := 85) a2.toNatClampNeg rfl dX7_gain_84 rfl (mK_30 hM) (zin_ok h_11) ?_
          refine z_iconst (n := 86) (v := 2) dX7_gain_85 rfl (by decide) ?_
          refine z_idiv (n := 87) dX7_gain_86 rfl (by decide) ?_
          refine z_goto (t := 91) dX7_gain_87 (by decide) ?_
          have hF := Option.some.inj hF; subst hF
          exact z_iret dX7_gain_91 rfl rfl ⟨rfl, rfl, rfl, rfl, rfl⟩
      · replace hF := (if_neg hc).symm.trans hF
        refine z_aload_n (n := 64) dX7_gain_63 rfl 1 rfl rfl ?_
        refine z_getRS (n := 67) dX7_gain_64 rfl zok6 fX7_86 rfl hM.1 (Or.inl (by decide)) (mF_30 hM) ?_
        refine z_iload_n (n := 68) dX7_gain_67 rfl 2 rfl rfl ?_
        obtain ⟨h_12, hF⟩ := zg_some hF
        refine z_ialdK (n := 69) a2.toNatClampNeg rfl dX7_gain_68 rfl (mK_30 hM) (zin_ok h_12) ?_
        refine z_goto (t := 91) dX7_gain_69 (by decide) ?_
        have hF := Option.some.inj hF; subst hF
        exact z_iret dX7_gain_91 rfl rfl ⟨rfl, rfl, rfl, rfl, rfl⟩
    clear e_9
    refine z_icmp_ne (n := 33) (t := 52) dX7_gain_30 rfl (by decide) (fun hc => ?_) (fun hc => ?_)
    · replace hF := (if_pos hc).symm.trans hF
      refine z_ldc (n := 54) dX7_gain_52 rfl q1897 ?_
      refine z_sub [1, 4, 0] rfl ?_
      exact H_10 _ _ hF
    · replace hF := (if_neg hc).symm.trans hF
      refine z_aload_n (n := 34) dX7_gain_33 rfl 1 rfl rfl ?_
      refine z_aload_n (n := 35) dX7_gain_34 rfl 1 rfl rfl ?_
      refine z_getRS (n := 38) dX7_gain_35 rfl zok6 fX7_56 rfl hM.1 (Or.inl (by decide)) (mF_11 hM) ?_
      refine z_iload_n (n := 39) dX7_gain_38 rfl 3 rfl rfl ?_
      obtain ⟨h_13, hF⟩ := zg_some hF
      refine z_ialdK (n := 40) a1.toNatClampNeg rfl dX7_gain_39 rfl (mK_11 hM) (zin_ok h_13) ?_
      refine z_aload_n (n := 41) dX7_gain_40 rfl 1 rfl rfl ?_
      refine z_getRS (n := 44) dX7_gain_41 rfl zok6 fX7_80 rfl hM.1 (Or.inl (by decide)) (mF_28 hM) ?_
      refine z_iload_n (n := 45) dX7_gain_44 rfl 4 rfl rfl ?_
      obtain ⟨h_14, hF⟩ := zg_some hF
      refine z_ialdK (n := 46) a2.toNatClampNeg rfl dX7_gain_45 rfl (mK_28 hM) (zin_ok h_14) ?_
      obtain ⟨x_16, I_17, c_15, hF⟩ := zb2_some hF
      refine z_cV (n := 49) (st := []) (C_X7_farOf htr hM c_15) dX7_gain_46 rfl (lw_V q2188 q2190 qs94 q131 q2191) hcee_X7_farOf rfl (by decide) hM.1 rfl rfl rfl (Nat.le_of_ble_eq_true rfl) (Nat.le_refl _) (Nat.le_refl _) ?_
      refine z_goto (t := 54) dX7_gain_49 (by decide) ?_
      refine z_sub [1, 4, 0] rfl ?_
      exact H_10 _ _ hF
  · replace hF := (if_neg hc).symm.trans hF
    refine z_iconst (n := 26) (v := 0) dX7_gain_25 rfl (by decide) ?_
    have hF := Option.some.inj hF; subst hF
    exact z_iret dX7_gain_26 rfl rfl ⟨rfl, rfl, rfl, rfl, rfl⟩
theorem hcee_X7_gain : zCee yX7_gain RX7 4 := ⟨rfl, by decide +kernel, by decide +kernel, by decide +kernel⟩
abbrev MX7_game : zM := (RX7, cX7_game, 11, (some .int), "game", [])
noncomputable def F_X7_game_L81 (a0 : Int32) (a1 : Int32) (a2 : Int32) (a3 : Int32) (v6_29 : Int32) (v7_30 : Int32) (v8_31 : Int32) (I_32 : zId) : Option ((Int32 × Int32 × Int32 × zId) ⊕ (Int32 × Int32 × zId)) := if 4 ≤ v8_31 then some (.inr ((v6_29, v7_30, I_32))) else zlet (fun (w_33 : Int32) => zlet (fun (w_37 : Int32) => zb2 (F_X7_gain a0 a1 ((a2 + a3) - w_33) w_37 I_32) (fun x_42 I_43 => zb2 (F_X7_gain a0 a1 w_33 w_37 I_43) (fun x_45 I_46 => if x_45 < x_42 then zlet (v8_31 + 1) (fun v8_47 => some (.inl (v6_29, v7_30, v8_47, I_46))) else zb2 (F_X7_gain a1 a0 ((a2 + a3) - w_37) w_33 I_46) (fun x_50 I_51 => zb2 (F_X7_gain a1 a0 w_37 w_33 I_51) (fun x_53 I_54 => if x_50 ≤ x_53 then zlet (v6_29 + 1) (fun v6_55 => if ¬ v7_30 = (-1) then zlet (v8_31 + 1) (fun v8_57 => some (.inl (v6_55, v7_30, v8_57, I_54))) else zlet (((10 : Int32) * (v8_31 / 2)) + (v8_31 - v8_31 / 2 * 2)) (fun v7_59 => zlet (v8_31 + 1) (fun v8_61 => some (.inl (v6_55, v7_59, v8_61, I_54))))) else zlet (v8_31 + 1) (fun v8_63 => some (.inl (v6_29, v7_30, v8_63, I_54)))))))) (fun k_38 => if ¬ (v8_31 - v8_31 / 2 * 2) = 0 then k_38 a3 else k_38 a2)) (fun k_34 => if ¬ (v8_31 / 2) = 0 then k_34 a3 else k_34 a2)
noncomputable def F_X7_game (a0 : Int32) (a1 : Int32) (a2 : Int32) (a3 : Int32) (a4 : Int32) (I : zId) : Option (Int32 × zId) := zlet (zu I 1860 1 0) (fun I_1 => zb1 (F_X7_isFort a0 I_1) (fun x_4 => if x_4 = 0 then zb2 (F_X7_fail 1 I_1) (fun x_6 I_7 => some (x_6, I_7)) else zb1 (F_X7_isFort a1 I_1) (fun x_9 => if x_9 = 0 then zb2 (F_X7_fail 1 I_1) (fun x_11 I_12 => some (x_11, I_12)) else zb1 (F_X7_isBand a2 I_1) (fun x_14 => if x_14 = 0 then zb2 (F_X7_fail 1 I_1) (fun x_16 I_17 => some (x_16, I_17)) else zb1 (F_X7_isBand a3 I_1) (fun x_19 => if x_19 = 0 then zb2 (F_X7_fail 1 I_1) (fun x_21 I_22 => some (x_21, I_22)) else if a4 < 0 then zb2 (F_X7_fail 1 I_1) (fun x_24 I_25 => some (x_24, I_25)) else if a4 ≤ 1 then if a0 = a1 then zb2 (F_X7_fail 2 I_1) (fun x_27 I_28 => some (x_27, I_28)) else if ¬ a2 = a3 then zb1 (zloop (fun s : Int32 × Int32 × Int32 × zId => F_X7_game_L81 a0 a1 a2 a3 s.1 s.2.1 s.2.2.1 s.2.2.2) (0, (-1), 0, I_1)) (zn3 (fun v6_65 v7_66 I_67 => if ¬ a4 = 0 then some (v7_66, I_67) else some (v6_65, I_67))) else zb2 (F_X7_fail 2 I_1) (fun x_72 I_73 => some (x_72, I_73)) else zb2 (F_X7_fail 1 I_1) (fun x_75 I_76 => some (x_75, I_76)))))))
set_option maxHeartbeats 1000000 in
theorem W_X7_game_L81 {l : Launch} {G : zGt} (htr : l.stackTraces = false) {K : zKd} {F : zFd} {L : zLd} {Q : zQt} {a0 : Int32} {a1 : Int32} {a2 : Int32} {a3 : Int32} {a4 : Int32} {v6_29 : Int32} {v7_30 : Int32} {v8_31 : Int32} {I_32 : zId} (hM : zMLay K F) {r : (Int32 × Int32 × Int32 × zId) ⊕ (Int32 × Int32 × zId)} (hF : F_X7_game_L81 a0 a1 a2 a3 v6_29 v7_30 v8_31 I_32 = some r) (kl : ∀ (z0 : Int32) (z1 : Int32) (z2 : Int32) (z3 : zId), r = .inl (z0, z1, z2, z3) → zW l G MX7_game 4 96 0 0 81 [(0, .ref 1860), (1, .int a0), (2, .int a1), (3, .int a2), (4, .int a3), (5, .int a4), (6, .int z0), (7, .int z1), (8, .int z2)] [] K F z3 L Q) (kx : ∀ (y0 : Int32) (y1 : Int32) (y2 : zId), r = .inr (y0, y1, y2) → zW l G MX7_game 4 96 0 0 210 [(5, .int a4), (6, .int y0), (7, .int y1)] [] K F y2 L Q)  : zW l G MX7_game 4 96 0 0 81 [(0, .ref 1860), (1, .int a0), (2, .int a1), (3, .int a2), (4, .int a3), (5, .int a4), (6, .int v6_29), (7, .int v7_30), (8, .int v8_31)] [] K F I_32 L Q := by
  unfold F_X7_game_L81 at hF
  refine z_iload (n := 83) dX7_game_81 rfl 8 rfl ?_
  refine z_iconst (n := 84) (v := 4) dX7_game_83 rfl (by decide) ?_
  refine z_icmp_ge (n := 87) (t := 210) dX7_game_84 rfl (by decide) (fun hc => ?_) (fun hc => ?_)
  · replace hF := (if_pos hc).symm.trans hF
    refine z_sub [5, 6, 7] rfl ?_
    have hF := Option.some.inj hF; subst hF
    exact kx _ _ _ rfl
  · replace hF := (if_neg hc).symm.trans hF
    refine z_iload (n := 89) dX7_game_87 rfl 8 rfl ?_
    refine z_iconst (n := 90) (v := 2) dX7_game_89 rfl (by decide) ?_
    refine z_idiv (n := 91) dX7_game_90 rfl (by decide) ?_
    obtain ⟨k_34, e_35, hF⟩ := zlet_ob hF
    have H_36 : ∀ (w_33 : Int32), k_34 w_33 = some r → zW l G MX7_game 4 96 0 0 100 [(0, .ref 1860), (1, .int a0), (2, .int a1), (3, .int a2), (4, .int a3), (5, .int a4), (6, .int v6_29), (7, .int v7_30), (8, .int v8_31)] [.int w_33] K F I_32 L Q := by
      intro w_33 hF
      subst e_35
      dsimp only at hF
      refine z_istoreE (n := 102) (lv' := [(9, .int w_33), (0, .ref 1860), (1, .int a0), (2, .int a1), (3, .int a2), (4, .int a3), (5, .int a4), (6, .int v6_29), (7, .int v7_30), (8, .int v8_31)]) dX7_game_100 rfl rfl (by decide) rfl ?_
      refine z_iload (n := 104) dX7_game_102 rfl 9 rfl ?_
      refine z_iconst (n := 105) (v := 2) dX7_game_104 rfl (by decide) ?_
      refine z_irem (n := 106) dX7_game_105 rfl (by decide) ?_
      obtain ⟨k_38, e_39, hF⟩ := zlet_ob hF
      have H_40 : ∀ (w_37 : Int32), k_38 w_37 = some r → zW l G MX7_game 4 96 0 0 115 [(0, .ref 1860), (1, .int a0), (2, .int a1), (3, .int a2), (4, .int a3), (5, .int a4), (6, .int v6_29), (7, .int v7_30), (8, .int v8_31), (9, .int w_33)] [.int w_37] K F I_32 L Q := by
        intro w_37 hF
        subst e_39
        dsimp only at hF
        refine z_istoreE (n := 117) (lv' := [(10, .int w_37), (0, .ref 1860), (1, .int a0), (2, .int a1), (3, .int a2), (4, .int a3), (5, .int a4), (6, .int v6_29), (7, .int v7_30), (8, .int v8_31), (9, .int w_33)]) dX7_game_115 rfl rfl (by decide) rfl ?_
        refine z_aload_n (n := 118) dX7_game_117 rfl 1 rfl rfl ?_
        refine z_iload_n (n := 119) dX7_game_118 rfl 2 rfl rfl ?_
        refine z_iload_n (n := 120) dX7_game_119 rfl 3 rfl rfl ?_
        refine z_iload_n (n := 121) dX7_game_120 rfl 4 rfl rfl ?_
        refine z_iload (n := 123) dX7_game_121 rfl 5 rfl ?_
        refine z_iadd (n := 124) dX7_game_123 rfl ?_
        refine z_iload (n := 126) dX7_game_124 rfl 10 rfl ?_
        refine z_isub (n := 127) dX7_game_126 rfl ?_
        refine z_iload (n := 129) dX7_game_127 rfl 0 rfl ?_
        obtain ⟨x_42, I_43, c_41, hF⟩ := zb2_some hF
        refine z_cV (n := 132) (st := []) (C_X7_gain htr hM c_41) dX7_game_129 rfl (lw_V q2262 q2264 qs101 q131 q2265) hcee_X7_gain rfl (by decide) hM.1 rfl rfl rfl (Nat.le_of_ble_eq_true rfl) (Nat.le_refl _) (Nat.le_refl _) ?_
        refine z_aload_n (n := 133) dX7_game_132 rfl 1 rfl rfl ?_
        refine z_iload_n (n := 134) dX7_game_133 rfl 2 rfl rfl ?_
        refine z_iload_n (n := 135) dX7_game_134 rfl 3 rfl rfl ?_
        refine z_iload (n := 137) dX7_game_135 rfl 10 rfl ?_
        refine z_iload (n := 139) dX7_game_137 rfl 0 rfl ?_
        obtain ⟨x_45, I_46, c_44, hF⟩ := zb2_some hF
        refine z_cV (n := 142) (st := [.int x_42]) (C_X7_gain htr hM c_44) dX7_game_139 rfl (lw_V q2262 q2264 qs101 q131 q2265) hcee_X7_gain rfl (by decide) hM.1 rfl rfl rfl (Nat.le_of_ble_eq_true rfl) (Nat.le_refl _) (Nat.le_refl _) ?_
        refine z_icmp_gt (n := 145) (t := 204) dX7_game_142 rfl (by decide) (fun hc => ?_) (fun hc => ?_)
        · replace hF := (if_pos hc).symm.trans hF
          obtain ⟨v8_47, e_48, hF⟩ := zlet_ob hF
          refine z_iincE (n := 207) (w := 1) (v := v8_47) (lv' := [(8, .int v8_47), (10, .int w_37), (0, .ref 1860), (1, .int a0), (2, .int a1), (3, .int a2), (4, .int a3), (5, .int a4), (6, .int v6_29), (7, .int v7_30), (9, .int w_33)]) dX7_game_204 rfl 9 rfl (by decide) e_48 (by decide) rfl ?_
          refine z_goto (t := 81) dX7_game_207 (by decide) ?_
          refine z_sub [2, 3, 4, 5, 6, 7, 8, 9, 0] rfl ?_
          have hF := Option.some.inj hF; subst hF
          exact kl _ _ _ _ rfl
        · replace hF := (if_neg hc).symm.trans hF
          refine z_aload_n (n := 146) dX7_game_145 rfl 1 rfl rfl ?_
          refine z_iload_n (n := 147) dX7_game_146 rfl 3 rfl rfl ?_
          refine z_iload_n (n := 148) dX7_game_147 rfl 2 rfl rfl ?_
          refine z_iload_n (n := 149) dX7_game_148 rfl 4 rfl rfl ?_
          refine z_iload (n := 151) dX7_game_149 rfl 5 rfl ?_
          refine z_iadd (n := 152) dX7_game_151 rfl ?_
          refine z_iload (n := 154) dX7_game_152 rfl 0 rfl ?_
          refine z_isub (n := 155) dX7_game_154 rfl ?_
          refine z_iload (n := 157) dX7_game_155 rfl 10 rfl ?_
          obtain ⟨x_50, I_51, c_49, hF⟩ := zb2_some hF
          refine z_cV (n := 160) (st := []) (C_X7_gain htr hM c_49) dX7_game_157 rfl (lw_V q2262 q2264 qs101 q131 q2265) hcee_X7_gain rfl (by decide) hM.1 rfl rfl rfl (Nat.le_of_ble_eq_true rfl) (Nat.le_refl _) (Nat.le_refl _) ?_
          refine z_aload_n (n := 161) dX7_game_160 rfl 1 rfl rfl ?_
          refine z_iload_n (n := 162) dX7_game_161 rfl 3 rfl rfl ?_
          refine z_iload_n (n := 163) dX7_game_162 rfl 2 rfl rfl ?_
          refine z_iload (n := 165) dX7_game_163 rfl 0 rfl ?_
          refine z_iload (n := 167) dX7_game_165 rfl 10 rfl ?_
          obtain ⟨x_53, I_54, c_52, hF⟩ := zb2_some hF
          refine z_cV (n := 170) (st := [.int x_50]) (C_X7_gain htr hM c_52) dX7_game_167 rfl (lw_V q2262 q2264 qs101 q131 q2265) hcee_X7_gain rfl (by decide) hM.1 rfl rfl rfl (Nat.le_of_ble_eq_true rfl) (Nat.le_refl _) (Nat.le_refl _) ?_
          refine z_icmp_le (n := 173) (t := 176) dX7_game_170 rfl (by decide) (fun hc => ?_) (fun hc => ?_)
          · replace hF := (if_pos hc).symm.trans hF
            obtain ⟨v6_55, e_56, hF⟩ := zlet_ob hF
            refine z_iincE (n := 179) (w := 1) (v := v6_55) (lv' := [(6, .int v6_55), (10, .int w_37), (0, .ref 1860), (1, .int a0), (2, .int a1), (3, .int a2), (4, .int a3), (5, .int a4), (7, .int v7_30), (8, .int v8_31), (9, .int w_33)]) dX7_game_176 rfl 7 rfl (by decide) e_56 (by decide) rfl ?_
            refine z_iload (n := 181) dX7_game_179 rfl 8 rfl ?_
            refine z_iconst (n := 182) (v := (-1)) dX7_game_181 rfl (by decide) ?_
            refine z_icmp_ne (n := 185) (t := 200) dX7_game_182 rfl (by decide) (fun hc => ?_) (fun hc => ?_)
            · replace hF := (if_pos hc).symm.trans hF
              refine z_iload (n := 202) dX7_game_200 rfl 8 rfl ?_
              refine z_istoreE (n := 204) (lv' := [(7, .int v7_30), (6, .int v6_55), (10, .int w_37), (0, .ref 1860), (1, .int a0), (2, .int a1), (3, .int a2), (4, .int a3), (5, .int a4), (8, .int v8_31), (9, .int w_33)]) dX7_game_202 rfl rfl (by decide) rfl ?_
              obtain ⟨v8_57, e_58, hF⟩ := zlet_ob hF
              refine z_iincE (n := 207) (w := 1) (v := v8_57) (lv' := [(8, .int v8_57), (7, .int v7_30), (6, .int v6_55), (10, .int w_37), (0, .ref 1860), (1, .int a0), (2, .int a1), (3, .int a2), (4, .int a3), (5, .int a4), (9, .int w_33)]) dX7_game_204 rfl 9 rfl (by decide) e_58 (by decide) rfl ?_
              refine z_goto (t := 81) dX7_game_207 (by decide) ?_
              refine z_sub [4, 5, 6, 7, 8, 9, 2, 1, 0] rfl ?_
              have hF := Option.some.inj hF; subst hF
              exact kl _ _ _ _ rfl
            · replace hF := (if_neg hc).symm.trans hF
              refine z_bipush (n := 187) (v := 10) dX7_game_185 rfl (by decide) ?_
              refine z_iload (n := 189) dX7_game_187 rfl 9 rfl ?_
              refine z_iconst (n := 190) (v := 2) dX7_game_189 rfl (by decide) ?_
              refine z_idiv (n := 191) dX7_game_190 rfl (by decide) ?_
              refine z_imul (n := 192) dX7_game_191 rfl ?_
              refine z_iload (n := 194) dX7_game_192 rfl 9 rfl ?_
              refine z_iconst (n := 195) (v := 2) dX7_game_194 rfl (by decide) ?_
              refine z_irem (n := 196) dX7_game_195 rfl (by decide) ?_
              refine z_iadd (n := 197) dX7_game_196 rfl ?_
              refine z_goto (t := 202) dX7_game_197 (by decide) ?_
              obtain ⟨v7_59, e_60, hF⟩ := zlet_ob hF
              refine z_istoreE (n := 204) (lv' := [(7, .int v7_59), (6, .int v6_55), (10, .int w_37), (0, .ref 1860), (1, .int a0), (2, .int a1), (3, .int a2), (4, .int a3), (5, .int a4), (8, .int v8_31), (9, .int w_33)]) dX7_game_202 rfl e_60 (by decide) rfl ?_
              obtain ⟨v8_61, e_62, hF⟩ := zlet_ob hF
              refine z_iincE (n := 207) (w := 1) (v := v8_61) (lv' := [(8, .int v8_61), (7, .int v7_59), (6, .int v6_55), (10, .int w_37), (0, .ref 1860), (1, .int a0), (2, .int a1), (3, .int a2), (4, .int a3), (5, .int a4), (9, .int w_33)]) dX7_game_204 rfl 9 rfl (by decide) e_62 (by decide) rfl ?_
              refine z_goto (t := 81) dX7_game_207 (by decide) ?_
              refine z_sub [4, 5, 6, 7, 8, 9, 2, 1, 0] rfl ?_
              have hF := Option.some.inj hF; subst hF
              exact kl _ _ _ _ rfl
          · replace hF := (if_neg hc).symm.trans hF
            refine z_goto (t := 204) dX7_game_173 (by decide) ?_
            obtain ⟨v8_63, e_64, hF⟩ := zlet_ob hF
            refine z_iincE (n := 207) (w := 1) (v := v8_63) (lv' := [(8, .int v8_63), (10, .int w_37), (0, .ref 1860), (1, .int a0), (2, .int a1), (3, .int a2), (4, .int a3), (5, .int a4), (6, .int v6_29), (7, .int v7_30), (9, .int w_33)]) dX7_game_204 rfl 9 rfl (by decide) e_64 (by decide) rfl ?_
            refine z_goto (t := 81) dX7_game_207 (by decide) ?_
            refine z_sub [2, 3, 4, 5, 6, 7, 8, 9, 0] rfl ?_
            have hF := Option.some.inj hF; subst hF
            exact kl _ _ _ _ rfl
      clear e_39
      refine z_if_ne (n := 109) (t := 113) dX7_game_106 rfl (by decide) (fun hc => ?_) (fun hc => ?_)
      · replace hF := (if_pos hc).symm.trans hF
        refine z_iload (n := 115) dX7_game_113 rfl 5 rfl ?_
        refine z_sub [1, 2, 3, 4, 5, 6, 7, 8, 9, 0] rfl ?_
        exact H_40 _ hF
      · replace hF := (if_neg hc).symm.trans hF
        refine z_iload_n (n := 110) dX7_game_109 rfl 4 rfl rfl ?_
        refine z_goto (t := 115) dX7_game_110 (by decide) ?_
        refine z_sub [1, 2, 3, 4, 5, 6, 7, 8, 9, 0] rfl ?_
        exact H_40 _ hF
    clear e_35
    refine z_if_ne (n := 94) (t := 98) dX7_game_91 rfl (by decide) (fun hc => ?_) (fun hc => ?_)
    · replace hF := (if_pos hc).symm.trans hF
      refine z_iload (n := 100) dX7_game_98 rfl 4 rfl ?_
      exact H_36 _ hF
    · replace hF := (if_neg hc).symm.trans hF
      refine z_iload_n (n := 95) dX7_game_94 rfl 3 rfl rfl ?_
      refine z_goto (t := 100) dX7_game_95 (by decide) ?_
      exact H_36 _ hF
set_option maxHeartbeats 1000000 in
theorem C_X7_game {l : Launch} {G : zGt} (htr : l.stackTraces = false) {K : zKd} {F : zFd} {L : zLd} {a0 : Int32} {a1 : Int32} {a2 : Int32} {a3 : Int32} {a4 : Int32} (hM : zMLay K F) {I : zId} {r : Int32 × zId} (hF : F_X7_game a0 a1 a2 a3 a4 I = some r) : zMet l G yX7_game (ws_ yX7_game cX7_game 11 (some .int)) 4 96 0 0 [.ref 1860, .int a0, .int a1, .int a2, .int a3, .int a4] K F I L (zQe (.inl (some (.int r.1))) K F r.2 L) := by
  refine zMet.of (by decide +kernel) htr (Nat.le_of_ble_eq_true rfl) ?_
  change zW l G MX7_game 4 96 0 0 0 [(0, .ref 1860), (1, .int a0), (2, .int a1), (3, .int a2), (4, .int a3), (5, .int a4)] [] K F I L (zQe (.inl (some (.int r.1))) K F r.2 L)
  unfold F_X7_game at hF
  refine z_aload_n (n := 1) dX7_game_0 rfl 0 rfl rfl ?_
  refine z_iconst (n := 2) (v := 0) dX7_game_1 rfl (by decide) ?_
  obtain ⟨I_1, e_2, hF⟩ := zlet_ob hF
  refine z_putIE (n := 5) dX7_game_2 rfl zok6 fX7_150 (Or.inl ⟨_, rfl, rfl⟩) rfl ⟨rfl, rfl⟩ hM.1 (by decide) e_2 ?_
  refine z_aload_n (n := 6) dX7_game_5 rfl 0 rfl rfl ?_
  refine z_iload_n (n := 7) dX7_game_6 rfl 1 rfl rfl ?_
  obtain ⟨x_4, c_3, hF⟩ := zb1_some hF
  refine z_cV (n := 10) (st := []) (C_X7_isFort htr hM c_3) dX7_game_7 rfl (lw_V q2200 q2202 qs96 q131 q2203) hcee_X7_isFort rfl (by decide) hM.1 rfl rfl rfl (Nat.le_of_ble_eq_true rfl) (Nat.le_refl _) (Nat.le_refl _) ?_
  refine z_if_eq (n := 13) (t := 49) dX7_game_10 rfl (by decide) (fun hc => ?_) (fun hc => ?_)
  · replace hF := (if_pos hc).symm.trans hF
    refine z_aload_n (n := 50) dX7_game_49 rfl 0 rfl rfl ?_
    refine z_iconst (n := 51) (v := 1) dX7_game_50 rfl (by decide) ?_
    obtain ⟨x_6, I_7, c_5, hF⟩ := zb2_some hF
    refine z_cV (n := 54) (st := []) (C_X7_fail htr hM c_5) dX7_game_51 rfl (lw_V q1879 q1881 qs48 q131 q1882) hcee_X7_fail rfl (by decide) hM.1 rfl rfl rfl (Nat.le_of_ble_eq_true rfl) (Nat.le_refl _) (Nat.le_refl _) ?_
    have hF := Option.some.inj hF; subst hF
    exact z_iret dX7_game_54 rfl rfl ⟨rfl, rfl, rfl, rfl, rfl⟩
  · replace hF := (if_neg hc).symm.trans hF
    refine z_aload_n (n := 14) dX7_game_13 rfl 0 rfl rfl ?_
    refine z_iload_n (n := 15) dX7_game_14 rfl 2 rfl rfl ?_
    obtain ⟨x_9, c_8, hF⟩ := zb1_some hF
    refine z_cV (n := 18) (st := []) (C_X7_isFort htr hM c_8) dX7_game_15 rfl (lw_V q2200 q2202 qs96 q131 q2203) hcee_X7_isFort rfl (by decide) hM.1 rfl rfl rfl (Nat.le_of_ble_eq_true rfl) (Nat.le_refl _) (Nat.le_refl _) ?_
    refine z_if_eq (n := 21) (t := 49) dX7_game_18 rfl (by decide) (fun hc => ?_) (fun hc => ?_)
    · replace hF := (if_pos hc).symm.trans hF
      refine z_aload_n (n := 50) dX7_game_49 rfl 0 rfl rfl ?_
      refine z_iconst (n := 51) (v := 1) dX7_game_50 rfl (by decide) ?_
      obtain ⟨x_11, I_12, c_10, hF⟩ := zb2_some hF
      refine z_cV (n := 54) (st := []) (C_X7_fail htr hM c_10) dX7_game_51 rfl (lw_V q1879 q1881 qs48 q131 q1882) hcee_X7_fail rfl (by decide) hM.1 rfl rfl rfl (Nat.le_of_ble_eq_true rfl) (Nat.le_refl _) (Nat.le_refl _) ?_
      have hF := Option.some.inj hF; subst hF
      exact z_iret dX7_game_54 rfl rfl ⟨rfl, rfl, rfl, rfl, rfl⟩
    · replace hF := (if_neg hc).symm.trans hF
      refine z_aload_n (n := 22) dX7_game_21 rfl 0 rfl rfl ?_
      refine z_iload_n (n := 23) dX7_game_22 rfl 3 rfl rfl ?_
      obtain ⟨x_14, c_13, hF⟩ := zb1_some hF
      refine z_cV (n := 26) (st := []) (C_X7_isBand htr hM c_13) dX7_game_23 rfl (lw_V q2045 q2047 qs78 q131 q2048) hcee_X7_isBand rfl (by decide) hM.1 rfl rfl rfl (Nat.le_of_ble_eq_true rfl) (Nat.le_refl _) (Nat.le_refl _) ?_
      refine z_if_eq (n := 29) (t := 49) dX7_game_26 rfl (by decide) (fun hc => ?_) (fun hc => ?_)
      · replace hF := (if_pos hc).symm.trans hF
        refine z_aload_n (n := 50) dX7_game_49 rfl 0 rfl rfl ?_
        refine z_iconst (n := 51) (v := 1) dX7_game_50 rfl (by decide) ?_
        obtain ⟨x_16, I_17, c_15, hF⟩ := zb2_some hF
        refine z_cV (n := 54) (st := []) (C_X7_fail htr hM c_15) dX7_game_51 rfl (lw_V q1879 q1881 qs48 q131 q1882) hcee_X7_fail rfl (by decide) hM.1 rfl rfl rfl (Nat.le_of_ble_eq_true rfl) (Nat.le_refl _) (Nat.le_refl _) ?_
        have hF := Option.some.inj hF; subst hF
        exact z_iret dX7_game_54 rfl rfl ⟨rfl, rfl, rfl, rfl, rfl⟩
      · replace hF := (if_neg hc).symm.trans hF
        refine z_aload_n (n := 30) dX7_game_29 rfl 0 rfl rfl ?_
        refine z_iload (n := 32) dX7_game_30 rfl 4 rfl ?_
        obtain ⟨x_19, c_18, hF⟩ := zb1_some hF
        refine z_cV (n := 35) (st := []) (C_X7_isBand htr hM c_18) dX7_game_32 rfl (lw_V q2045 q2047 qs78 q131 q2048) hcee_X7_isBand rfl (by decide) hM.1 rfl rfl rfl (Nat.le_of_ble_eq_true rfl) (Nat.le_refl _) (Nat.le_refl _) ?_
        refine z_if_eq (n := 38) (t := 49) dX7_game_35 rfl (by decide) (fun hc => ?_) (fun hc => ?_)
        · replace hF := (if_pos hc).symm.trans hF
          refine z_aload_n (n := 50) dX7_game_49 rfl 0 rfl rfl ?_
          refine z_iconst (n := 51) (v := 1) dX7_game_50 rfl (by decide) ?_
          obtain ⟨x_21, I_22, c_20, hF⟩ := zb2_some hF
          refine z_cV (n := 54) (st := []) (C_X7_fail htr hM c_20) dX7_game_51 rfl (lw_V q1879 q1881 qs48 q131 q1882) hcee_X7_fail rfl (by decide) hM.1 rfl rfl rfl (Nat.le_of_ble_eq_true rfl) (Nat.le_refl _) (Nat.le_refl _) ?_
          have hF := Option.some.inj hF; subst hF
          exact z_iret dX7_game_54 rfl rfl ⟨rfl, rfl, rfl, rfl, rfl⟩
        · replace hF := (if_neg hc).symm.trans hF
          refine z_iload (n := 40) dX7_game_38 rfl 5 rfl ?_
          refine z_if_lt (n := 43) (t := 49) dX7_game_40 rfl (by decide) (fun hc => ?_) (fun hc => ?_)
          · replace hF := (if_pos hc).symm.trans hF
            refine z_aload_n (n := 50) dX7_game_49 rfl 0 rfl rfl ?_
            refine z_iconst (n := 51) (v := 1) dX7_game_50 rfl (by decide) ?_
            obtain ⟨x_24, I_25, c_23, hF⟩ := zb2_some hF
            refine z_cV (n := 54) (st := []) (C_X7_fail htr hM c_23) dX7_game_51 rfl (lw_V q1879 q1881 qs48 q131 q1882) hcee_X7_fail rfl (by decide) hM.1 rfl rfl rfl (Nat.le_of_ble_eq_true rfl) (Nat.le_refl _) (Nat.le_refl _) ?_
            have hF := Option.some.inj hF; subst hF
            exact z_iret dX7_game_54 rfl rfl ⟨rfl, rfl, rfl, rfl, rfl⟩
          · replace hF := (if_neg hc).symm.trans hF
            refine z_iload (n := 45) dX7_game_43 rfl 5 rfl ?_
            refine z_iconst (n := 46) (v := 1) dX7_game_45 rfl (by decide) ?_
            refine z_icmp_le (n := 49) (t := 55) dX7_game_46 rfl (by decide) (fun hc => ?_) (fun hc => ?_)
            · replace hF := (if_pos hc).symm.trans hF
              refine z_iload_n (n := 56) dX7_game_55 rfl 1 rfl rfl ?_
              refine z_iload_n (n := 57) dX7_game_56 rfl 2 rfl rfl ?_
              refine z_icmp_eq (n := 60) (t := 66) dX7_game_57 rfl (by decide) (fun hc => ?_) (fun hc => ?_)
              · replace hF := (if_pos hc).symm.trans hF
                refine z_aload_n (n := 67) dX7_game_66 rfl 0 rfl rfl ?_
                refine z_iconst (n := 68) (v := 2) dX7_game_67 rfl (by decide) ?_
                obtain ⟨x_27, I_28, c_26, hF⟩ := zb2_some hF
                refine z_cV (n := 71) (st := []) (C_X7_fail htr hM c_26) dX7_game_68 rfl (lw_V q1879 q1881 qs48 q131 q1882) hcee_X7_fail rfl (by decide) hM.1 rfl rfl rfl (Nat.le_of_ble_eq_true rfl) (Nat.le_refl _) (Nat.le_refl _) ?_
                have hF := Option.some.inj hF; subst hF
                exact z_iret dX7_game_71 rfl rfl ⟨rfl, rfl, rfl, rfl, rfl⟩
              · replace hF := (if_neg hc).symm.trans hF
                refine z_iload_n (n := 61) dX7_game_60 rfl 3 rfl rfl ?_
                refine z_iload (n := 63) dX7_game_61 rfl 4 rfl ?_
                refine z_icmp_ne (n := 66) (t := 72) dX7_game_63 rfl (by decide) (fun hc => ?_) (fun hc => ?_)
                · replace hF := (if_pos hc).symm.trans hF
                  refine z_iconst (n := 73) (v := 0) dX7_game_72 rfl (by decide) ?_
                  refine z_istoreE (n := 75) (lv' := [(6, .int 0), (0, .ref 1860), (1, .int a0), (2, .int a1), (3, .int a2), (4, .int a3), (5, .int a4)]) dX7_game_73 rfl rfl (by decide) rfl ?_
                  refine z_iconst (n := 76) (v := (-1)) dX7_game_75 rfl (by decide) ?_
                  refine z_istoreE (n := 78) (lv' := [(7, .int (-1)), (6, .int 0), (0, .ref 1860), (1, .int a0), (2, .int a1), (3, .int a2), (4, .int a3), (5, .int a4)]) dX7_game_76 rfl rfl (by decide) rfl ?_
                  refine z_iconst (n := 79) (v := 0) dX7_game_78 rfl (by decide) ?_
                  refine z_istoreE (n := 81) (lv' := [(8, .int 0), (7, .int (-1)), (6, .int 0), (0, .ref 1860), (1, .int a0), (2, .int a1), (3, .int a2), (4, .int a3), (5, .int a4)]) dX7_game_79 rfl rfl (by decide) rfl ?_
                  refine z_sub [3, 4, 5, 6, 7, 8, 2, 1, 0] rfl ?_
                  obtain ⟨t_69, e_68, hF⟩ := zb1_some hF
                  obtain ⟨v6_65, v7_66, I_67⟩ := t_69
                  dsimp only [zn3] at hF
                  have H_70 : zW l G MX7_game 4 96 0 0 210 [(5, .int a4), (6, .int v6_65), (7, .int v7_66)] [] K F I_67 L (zQe (.inl (some (.int r.1))) K F r.2 L) := by
                    refine z_iload (n := 212) dX7_game_210 rfl 0 rfl ?_
                    refine z_if_ne (n := 215) (t := 220) dX7_game_212 rfl (by decide) (fun hc => ?_) (fun hc => ?_)
                    · replace hF := (if_pos hc).symm.trans hF
                      refine z_iload (n := 222) dX7_game_220 rfl 2 rfl ?_
                      have hF := Option.some.inj hF; subst hF
                      exact z_iret dX7_game_222 rfl rfl ⟨rfl, rfl, rfl, rfl, rfl⟩
                    · replace hF := (if_neg hc).symm.trans hF
                      refine z_iload (n := 217) dX7_game_215 rfl 1 rfl ?_
                      refine z_goto (t := 222) dX7_game_217 (by decide) ?_
                      have hF := Option.some.inj hF; subst hF
                      exact z_iret dX7_game_222 rfl rfl ⟨rfl, rfl, rfl, rfl, rfl⟩
                  refine zloop_ind (P := fun s : Int32 × Int32 × Int32 × zId => zW l G MX7_game 4 96 0 0 81 [(0, .ref 1860), (1, .int a0), (2, .int a1), (3, .int a2), (4, .int a3), (5, .int a4), (6, .int s.1), (7, .int s.2.1), (8, .int s.2.2.1)] [] K F s.2.2.2 L (zQe (.inl (some (.int r.1))) K F r.2 L)) (fun s r hb kl kr => ?_) e_68
                  exact W_X7_game_L81 (a0 := a0) (a1 := a1) (a2 := a2) (a3 := a3) (a4 := a4) htr hM hb (fun z0 z1 z2 z3 e => kl _ e) (fun y0 y1 y2 e => by cases kr _ e; exact H_70)
                · replace hF := (if_neg hc).symm.trans hF
                  refine z_aload_n (n := 67) dX7_game_66 rfl 0 rfl rfl ?_
                  refine z_iconst (n := 68) (v := 2) dX7_game_67 rfl (by decide) ?_
                  obtain ⟨x_72, I_73, c_71, hF⟩ := zb2_some hF
                  refine z_cV (n := 71) (st := []) (C_X7_fail htr hM c_71) dX7_game_68 rfl (lw_V q1879 q1881 qs48 q131 q1882) hcee_X7_fail rfl (by decide) hM.1 rfl rfl rfl (Nat.le_of_ble_eq_true rfl) (Nat.le_refl _) (Nat.le_refl _) ?_
                  have hF := Option.some.inj hF; subst hF
                  exact z_iret dX7_game_71 rfl rfl ⟨rfl, rfl, rfl, rfl, rfl⟩
            · replace hF := (if_neg hc).symm.trans hF
              refine z_aload_n (n := 50) dX7_game_49 rfl 0 rfl rfl ?_
              refine z_iconst (n := 51) (v := 1) dX7_game_50 rfl (by decide) ?_
              obtain ⟨x_75, I_76, c_74, hF⟩ := zb2_some hF
              refine z_cV (n := 54) (st := []) (C_X7_fail htr hM c_74) dX7_game_51 rfl (lw_V q1879 q1881 qs48 q131 q1882) hcee_X7_fail rfl (by decide) hM.1 rfl rfl rfl (Nat.le_of_ble_eq_true rfl) (Nat.le_refl _) (Nat.le_refl _) ?_
              have hF := Option.some.inj hF; subst hF
              exact z_iret dX7_game_54 rfl rfl ⟨rfl, rfl, rfl, rfl, rfl⟩
theorem fX7_453 : zFld RX7 453 6 53 := ⟨_, rfl, by decide, _, Or.inl q1730, Or.inl rfl⟩
abbrev MX7_drawOf : zM := (RX7, cX7_drawOf, 2, (some .int), "drawOf", [])
noncomputable def F_X7_drawOf (a0 : Int32) (I : zId) : Option (Int32 × zId) := zlet (zu I 1860 53 (((I 1860 53) * 1103515245) + 12345)) (fun I_1 => zg (!(decide (a0 = 0))) (some ((((I_1 1860 53) >>> ((16 : Int32) &&& (31 : Int32))) &&& (32767 : Int32)) - (((I_1 1860 53) >>> ((16 : Int32) &&& (31 : Int32))) &&& (32767 : Int32)) / a0 * a0, I_1)))
set_option maxHeartbeats 1000000 in
theorem C_X7_drawOf {l : Launch} {G : zGt} (htr : l.stackTraces = false) {K : zKd} {F : zFd} {L : zLd} {a0 : Int32} (hM : zMLay K F) {I : zId} {r : Int32 × zId} (hF : F_X7_drawOf a0 I = some r) : zMet l G yX7_drawOf (ws_ yX7_drawOf cX7_drawOf 2 (some .int)) 0 0 0 0 [.ref 1860, .int a0] K F I L (zQe (.inl (some (.int r.1))) K F r.2 L) := by
  refine zMet.of (by decide +kernel) htr (Nat.le_of_ble_eq_true rfl) ?_
  change zW l G MX7_drawOf 0 0 0 0 0 [(0, .ref 1860), (1, .int a0)] [] K F I L (zQe (.inl (some (.int r.1))) K F r.2 L)
  unfold F_X7_drawOf at hF
  refine z_aload_n (n := 1) dX7_drawOf_0 rfl 0 rfl rfl ?_
  refine z_aload_n (n := 2) dX7_drawOf_1 rfl 0 rfl rfl ?_
  refine z_getI (n := 5) dX7_drawOf_2 rfl zok6 fX7_453 rfl hM.1 (Or.inl (by decide)) ?_
  refine z_ldcw (n := 8) dX7_drawOf_5 rfl q2278 ?_
  refine z_imul (n := 9) dX7_drawOf_8 rfl ?_
  refine z_sipush (n := 12) (v := 12345) dX7_drawOf_9 rfl (by decide) ?_
  refine z_iadd (n := 13) dX7_drawOf_12 rfl ?_
  obtain ⟨I_1, e_2, hF⟩ := zlet_ob hF
  refine z_putIE (n := 16) dX7_drawOf_13 rfl zok6 fX7_453 (Or.inl ⟨_, rfl, rfl⟩) rfl ⟨rfl, rfl⟩ hM.1 (by decide) e_2 ?_
  refine z_aload_n (n := 17) dX7_drawOf_16 rfl 0 rfl rfl ?_
  refine z_getI (n := 20) dX7_drawOf_17 rfl zok6 fX7_453 rfl hM.1 (Or.inl (by decide)) ?_
  refine z_bipush (n := 22) (v := 16) dX7_drawOf_20 rfl (by decide) ?_
  refine z_ishr (n := 23) dX7_drawOf_22 rfl ?_
  refine z_sipush (n := 26) (v := 32767) dX7_drawOf_23 rfl (by decide) ?_
  refine z_iand (n := 27) dX7_drawOf_26 rfl ?_
  refine z_iload_n (n := 28) dX7_drawOf_27 rfl 1 rfl rfl ?_
  obtain ⟨h_3, hF⟩ := zg_some hF
  refine z_irem (n := 29) dX7_drawOf_28 rfl (zneg0 (a := 0) h_3) ?_
  have hF := Option.some.inj hF; subst hF
  exact z_iret dX7_drawOf_29 rfl rfl ⟨rfl, rfl, rfl, rfl, rfl⟩
theorem hcee_X7_drawOf : zCee yX7_drawOf RX7 1 := ⟨rfl, by decide +kernel, by decide +kernel, by decide +kernel⟩
abbrev MX7_frost : zM := (RX7, cX7_frost, 3, none, "frost", [])
noncomputable def F_X7_frost (I : zId) : Option (zId) := if ¬ (I 1862 0) = 0 then zb2 (F_X7_drawOf (I 1862 0) I) (fun x_2 I_3 => zb2 (F_X7_drawOf 4 I_3) (fun x_5 I_6 => zlet (fun (I_7 : zId) => zlet (fun (I_11 : zId) => zg (zin x_2 8) (zg (zin x_2 8) (zg (zin x_2 8) (zlet (zu I_11 1876 x_2.toNatClampNeg (zmin (I_11 1876 x_2.toNatClampNeg) (I_11 1875 x_2.toNatClampNeg))) (fun I_18 => some I_18))))) (fun k_12 => if ¬ x_5 = 1 then k_12 I_7 else zg (zin x_2 8) (zg (zin x_2 16) (if (I_7 1865 x_2.toNatClampNeg) < ((I_7 1875 x_2.toNatClampNeg) + 10) then k_12 I_7 else zg (zin x_2 8) (zg (zin x_2 8) (zlet (zu I_7 1875 x_2.toNatClampNeg ((I_7 1875 x_2.toNatClampNeg) + 10)) (fun I_24 => k_12 I_24))))))) (fun k_8 => if ¬ x_5 = 0 then k_8 I_6 else zg (zin x_2 8) (zg (zin x_2 8) (zg (zin x_2 8) (zlet (zu I_6 1875 x_2.toNatClampNeg ((I_6 1875 x_2.toNatClampNeg) - ((I_6 1875 x_2.toNatClampNeg) / 10))) (fun I_29 => k_8 I_29))))))) else some I
set_option maxHeartbeats 1000000 in
theorem C_X7_frost {l : Launch} {G : zGt} (htr : l.stackTraces = false) {K : zKd} {F : zFd} {L : zLd} (hM : zMLay K F) {I : zId} {r : zId} (hF : F_X7_frost I = some r) : zMet l G yX7_frost (ws_ yX7_frost cX7_frost 3 none) 1 24 0 0 [.ref 1860] K F I L (zQe (.inl none) K F r L) := by
  refine zMet.of (by decide +kernel) htr (Nat.le_of_ble_eq_true rfl) ?_
  change zW l G MX7_frost 1 24 0 0 0 [(0, .ref 1860)] [] K F I L (zQe (.inl none) K F r L)
  unfold F_X7_frost at hF
  refine z_aload_n (n := 1) dX7_frost_0 rfl 0 rfl rfl ?_
  refine z_getRS (n := 4) dX7_frost_1 rfl zok6 fX7_29 rfl hM.1 (Or.inl (by decide)) (mF_2 hM) ?_
  refine z_iconst (n := 5) (v := 0) dX7_frost_4 rfl (by decide) ?_
  refine z_ialdK (n := 6) 0 (by decide) dX7_frost_5 rfl (mK_2 hM) (zin_ok (i := 0) (n := 16) rfl) ?_
  refine z_if_ne (n := 9) (t := 10) dX7_frost_6 rfl (by decide) (fun hc => ?_) (fun hc => ?_)
  · replace hF := (if_pos hc).symm.trans hF
    refine z_aload_n (n := 11) dX7_frost_10 rfl 0 rfl rfl ?_
    refine z_aload_n (n := 12) dX7_frost_11 rfl 0 rfl rfl ?_
    refine z_getRS (n := 15) dX7_frost_12 rfl zok6 fX7_29 rfl hM.1 (Or.inl (by decide)) (mF_2 hM) ?_
    refine z_iconst (n := 16) (v := 0) dX7_frost_15 rfl (by decide) ?_
    refine z_ialdK (n := 17) 0 (by decide) dX7_frost_16 rfl (mK_2 hM) (zin_ok (i := 0) (n := 16) rfl) ?_
    obtain ⟨x_2, I_3, c_1, hF⟩ := zb2_some hF
    refine z_cV (n := 20) (st := []) (C_X7_drawOf htr hM c_1) dX7_frost_17 rfl (lw_V q2274 q2276 qs103 q131 q2277) hcee_X7_drawOf rfl (by decide) hM.1 rfl rfl rfl (Nat.le_of_ble_eq_true rfl) (Nat.le_refl _) (Nat.le_refl _) ?_
    refine z_istore_nE (n := 21) (lv' := [(1, .int x_2), (0, .ref 1860)]) dX7_frost_20 rfl rfl rfl (by decide) rfl ?_
    refine z_aload_n (n := 22) dX7_frost_21 rfl 1 rfl rfl ?_
    refine z_iconst (n := 23) (v := 4) dX7_frost_22 rfl (by decide) ?_
    obtain ⟨x_5, I_6, c_4, hF⟩ := zb2_some hF
    refine z_cV (n := 26) (st := []) (C_X7_drawOf htr hM c_4) dX7_frost_23 rfl (lw_V q2274 q2276 qs103 q131 q2277) hcee_X7_drawOf rfl (by decide) hM.1 rfl rfl rfl (Nat.le_of_ble_eq_true rfl) (Nat.le_refl _) (Nat.le_refl _) ?_
    refine z_istore_nE (n := 27) (lv' := [(2, .int x_5), (1, .int x_2), (0, .ref 1860)]) dX7_frost_26 rfl rfl rfl (by decide) rfl ?_
    refine z_iload_n (n := 28) dX7_frost_27 rfl 0 rfl rfl ?_
    obtain ⟨k_8, e_9, hF⟩ := zlet_ob hF
    have H_10 : ∀ (I_7 : zId), k_8 I_7 = some r → zW l G MX7_frost 1 24 0 0 49 [(0, .ref 1860), (1, .int x_2), (2, .int x_5)] [] K F I_7 L (zQe (.inl none) K F r L) := by
      intro I_7 hF
      subst e_9
      dsimp only at hF
      refine z_iload_n (n := 50) dX7_frost_49 rfl 2 rfl rfl ?_
      refine z_iconst (n := 51) (v := 1) dX7_frost_50 rfl (by decide) ?_
      obtain ⟨k_12, e_13, hF⟩ := zlet_ob hF
      have H_14 : ∀ (I_11 : zId), k_12 I_11 = some r → zW l G MX7_frost 1 24 0 0 83 [(0, .ref 1860), (1, .int x_2)] [] K F I_11 L (zQe (.inl none) K F r L) := by
        intro I_11 hF
        subst e_13
        dsimp only at hF
        refine z_aload_n (n := 84) dX7_frost_83 rfl 0 rfl rfl ?_
        refine z_getRS (n := 87) dX7_frost_84 rfl zok6 fX7_74 rfl hM.1 (Or.inl (by decide)) (mF_26 hM) ?_
        refine z_iload_n (n := 88) dX7_frost_87 rfl 1 rfl rfl ?_
        refine z_aload_n (n := 89) dX7_frost_88 rfl 0 rfl rfl ?_
        refine z_getRS (n := 92) dX7_frost_89 rfl zok6 fX7_74 rfl hM.1 (Or.inl (by decide)) (mF_26 hM) ?_
        refine z_iload_n (n := 93) dX7_frost_92 rfl 1 rfl rfl ?_
        obtain ⟨h_15, hF⟩ := zg_some hF
        refine z_ialdK (n := 94) x_2.toNatClampNeg rfl dX7_frost_93 rfl (mK_26 hM) (zin_ok h_15) ?_
        refine z_aload_n (n := 95) dX7_frost_94 rfl 0 rfl rfl ?_
        refine z_getRS (n := 98) dX7_frost_95 rfl zok6 fX7_72 rfl hM.1 (Or.inl (by decide)) (mF_25 hM) ?_
        refine z_iload_n (n := 99) dX7_frost_98 rfl 1 rfl rfl ?_
        obtain ⟨h_16, hF⟩ := zg_some hF
        refine z_ialdK (n := 100) x_2.toNatClampNeg rfl dX7_frost_99 rfl (mK_25 hM) (zin_ok h_16) ?_
        refine z_min (n := 103) dX7_frost_100 rfl q1898 q290 q119 q291 (by decide) (Nat.le_of_ble_eq_true rfl) ?_
        obtain ⟨h_17, hF⟩ := zg_some hF
        obtain ⟨I_18, e_19, hF⟩ := zlet_ob hF
        refine z_iastK (n := 104) x_2.toNatClampNeg rfl dX7_frost_103 rfl (mK_26 hM) (by decide) (zin_ok h_17) e_19 ?_
        have hF := Option.some.inj hF; subst hF
        exact z_vret dX7_frost_104 rfl ⟨rfl, rfl, rfl, rfl, rfl⟩
      clear e_13
      refine z_icmp_ne (n := 54) (t := 83) dX7_frost_51 rfl (by decide) (fun hc => ?_) (fun hc => ?_)
      · replace hF := (if_pos hc).symm.trans hF
        refine z_sub [0, 1] rfl ?_
        exact H_14 _ hF
      · replace hF := (if_neg hc).symm.trans hF
        refine z_aload_n (n := 55) dX7_frost_54 rfl 0 rfl rfl ?_
        refine z_getRS (n := 58) dX7_frost_55 rfl zok6 fX7_72 rfl hM.1 (Or.inl (by decide)) (mF_25 hM) ?_
        refine z_iload_n (n := 59) dX7_frost_58 rfl 1 rfl rfl ?_
        obtain ⟨h_20, hF⟩ := zg_some hF
        refine z_ialdK (n := 60) x_2.toNatClampNeg rfl dX7_frost_59 rfl (mK_25 hM) (zin_ok h_20) ?_
        refine z_bipush (n := 62) (v := 10) dX7_frost_60 rfl (by decide) ?_
        refine z_iadd (n := 63) dX7_frost_62 rfl ?_
        refine z_aload_n (n := 64) dX7_frost_63 rfl 0 rfl rfl ?_
        refine z_getRS (n := 67) dX7_frost_64 rfl zok6 fX7_39 rfl hM.1 (Or.inl (by decide)) (mF_5 hM) ?_
        refine z_iload_n (n := 68) dX7_frost_67 rfl 1 rfl rfl ?_
        obtain ⟨h_21, hF⟩ := zg_some hF
        refine z_ialdK (n := 69) x_2.toNatClampNeg rfl dX7_frost_68 rfl (mK_5 hM) (zin_ok h_21) ?_
        refine z_icmp_gt (n := 72) (t := 83) dX7_frost_69 rfl (by decide) (fun hc => ?_) (fun hc => ?_)
        · replace hF := (if_pos hc).symm.trans hF
          refine z_sub [0, 1] rfl ?_
          exact H_14 _ hF
        · replace hF := (if_neg hc).symm.trans hF
          refine z_aload_n (n := 73) dX7_frost_72 rfl 0 rfl rfl ?_
          refine z_getRS (n := 76) dX7_frost_73 rfl zok6 fX7_72 rfl hM.1 (Or.inl (by decide)) (mF_25 hM) ?_
          refine z_iload_n (n := 77) dX7_frost_76 rfl 1 rfl rfl ?_
          refine z_dup2 (n := 78) dX7_frost_77 rfl rfl rfl ?_
          obtain ⟨h_22, hF⟩ := zg_some hF
          refine z_ialdK (n := 79) x_2.toNatClampNeg rfl dX7_frost_78 rfl (mK_25 hM) (zin_ok h_22) ?_
          refine z_bipush (n := 81) (v := 10) dX7_frost_79 rfl (by decide) ?_
          refine z_iadd (n := 82) dX7_frost_81 rfl ?_
          obtain ⟨h_23, hF⟩ := zg_some hF
          obtain ⟨I_24, e_25, hF⟩ := zlet_ob hF
          refine z_iastK (n := 83) x_2.toNatClampNeg rfl dX7_frost_82 rfl (mK_25 hM) (by decide) (zin_ok h_23) e_25 ?_
          refine z_sub [0, 1] rfl ?_
          exact H_14 _ hF
    clear e_9
    refine z_if_ne (n := 31) (t := 49) dX7_frost_28 rfl (by decide) (fun hc => ?_) (fun hc => ?_)
    · replace hF := (if_pos hc).symm.trans hF
      refine z_sub [2, 1, 0] rfl ?_
      exact H_10 _ hF
    · replace hF := (if_neg hc).symm.trans hF
      refine z_aload_n (n := 32) dX7_frost_31 rfl 2 rfl rfl ?_
      refine z_getRS (n := 35) dX7_frost_32 rfl zok6 fX7_72 rfl hM.1 (Or.inl (by decide)) (mF_25 hM) ?_
      refine z_iload_n (n := 36) dX7_frost_35 rfl 1 rfl rfl ?_
      refine z_dup2 (n := 37) dX7_frost_36 rfl rfl rfl ?_
      obtain ⟨h_26, hF⟩ := zg_some hF
      refine z_ialdK (n := 38) x_2.toNatClampNeg rfl dX7_frost_37 rfl (mK_25 hM) (zin_ok h_26) ?_
      refine z_aload_n (n := 39) dX7_frost_38 rfl 2 rfl rfl ?_
      refine z_getRS (n := 42) dX7_frost_39 rfl zok6 fX7_72 rfl hM.1 (Or.inl (by decide)) (mF_25 hM) ?_
      refine z_iload_n (n := 43) dX7_frost_42 rfl 1 rfl rfl ?_
      obtain ⟨h_27, hF⟩ := zg_some hF
      refine z_ialdK (n := 44) x_2.toNatClampNeg rfl dX7_frost_43 rfl (mK_25 hM) (zin_ok h_27) ?_
      refine z_bipush (n := 46) (v := 10) dX7_frost_44 rfl (by decide) ?_
      refine z_idiv (n := 47) dX7_frost_46 rfl (by decide) ?_
      refine z_isub (n := 48) dX7_frost_47 rfl ?_
      obtain ⟨h_28, hF⟩ := zg_some hF
      obtain ⟨I_29, e_30, hF⟩ := zlet_ob hF
      refine z_iastK (n := 49) x_2.toNatClampNeg rfl dX7_frost_48 rfl (mK_25 hM) (by decide) (zin_ok h_28) e_30 ?_
      refine z_sub [2, 1, 0] rfl ?_
      exact H_10 _ hF
  · replace hF := (if_neg hc).symm.trans hF
    have hF := Option.some.inj hF; subst hF
    exact z_vret dX7_frost_9 rfl ⟨rfl, rfl, rfl, rfl, rfl⟩
theorem hcee_X7_frost : zCee yX7_frost RX7 0 := ⟨rfl, by decide +kernel, by decide +kernel, by decide +kernel⟩
abbrev MX7_winter : zM := (RX7, cX7_winter, 7, (some .int), "winter", [])
noncomputable def F_X7_winter_L64 (a1 : Int32) (v5_13 : Int32) (I_14 : zId) : Option ((Int32 × zId) ⊕ (zId)) := if a1 ≤ v5_13 then some (.inr (I_14)) else zb1 (F_X7_frost I_14) (fun I_16 => zb1 (F_X7_aYear I_16) (fun I_18 => zlet (v5_13 + 1) (fun v5_19 => some (.inl (v5_19, I_18)))))
noncomputable def F_X7_winter_L90 (I_21 : zId) (v5_23 : Int32) (v6_24 : Int32) : Option ((Int32 × Int32) ⊕ (Int32)) := if (I_21 1862 0) ≤ v6_24 then some (.inr (v5_23)) else zg (zin v6_24 8) (zlet (fun (w_26 : Int32) => zlet (v5_23 + w_26) (fun v5_30 => zlet (v6_24 + 1) (fun v6_32 => some (.inl (v5_30, v6_32))))) (fun k_27 => if ¬ (I_21 1875 v6_24.toNatClampNeg) = 0 then k_27 0 else k_27 1))
noncomputable def F_X7_winter (a0 : Int32) (a1 : Int32) (a2 : Int32) (I : zId) : Option (Int32 × zId) := zlet (zu I 1860 1 0) (fun I_1 => zb1 (F_X7_isIn a2.toInt64 0 2 I_1) (fun x_4 => if ¬ x_4 = 0 then zb1 (F_X7_isIn a1.toInt64 0 50 I_1) (fun x_6 => if ¬ x_6 = 0 then zb1 (F_X7_pack 1886 57 0 I_1) (fun I_8 => zlet (zu I_8 1860 53 a0) (fun I_9 => zb1 (F_X7_allDead I_9) (fun x_12 => zb1 (zloop (fun s : Int32 × zId => F_X7_winter_L64 a1 s.1 s.2) (0, I_9)) (fun I_21 => zb1 (zloop (fun s : Int32 × Int32 => F_X7_winter_L90 I_21 s.1 s.2) (0, 0)) (fun v5_34 => zlet (fun (w_36 : Int32) => zb1 (F_X7_unpack 1886 57 0 I_21) (fun I_41 => some (w_36, I_41))) (fun k_37 => if ¬ a2 = 0 then if ¬ a2 = 1 then k_37 v5_34 else zb1 (F_X7_allDead I_21) (fun x_43 => k_37 (x_43 - x_12)) else zb1 (F_X7_allSables I_21) (fun x_45 => k_37 x_45))))))) else zb2 (F_X7_fail 2 I_1) (fun x_51 I_52 => some (x_51, I_52))) else zb2 (F_X7_fail 1 I_1) (fun x_54 I_55 => some (x_54, I_55))))
set_option maxHeartbeats 1000000 in
theorem W_X7_winter_L64 {l : Launch} {G : zGt} (htr : l.stackTraces = false) {K : zKd} {F : zFd} {L : zLd} {Q : zQt} {a0 : Int32} {a1 : Int32} {a2 : Int32} {x_12 : Int32} {v5_13 : Int32} {I_14 : zId} (hM : zMLay K F) {r : (Int32 × zId) ⊕ (zId)} (hF : F_X7_winter_L64 a1 v5_13 I_14 = some r) (kl : ∀ (z0 : Int32) (z1 : zId), r = .inl (z0, z1) → zW l G MX7_winter 5 113 0 0 64 [(0, .ref 1860), (2, .int a1), (3, .int a2), (4, .int x_12), (5, .int z0)] [] K F z1 L Q) (kx : ∀ (y0 : zId), r = .inr y0 → zW l G MX7_winter 5 113 0 0 84 [(0, .ref 1860), (3, .int a2), (4, .int x_12)] [] K F y0 L Q)  : zW l G MX7_winter 5 113 0 0 64 [(0, .ref 1860), (2, .int a1), (3, .int a2), (4, .int x_12), (5, .int v5_13)] [] K F I_14 L Q := by
  unfold F_X7_winter_L64 at hF
  refine z_iload (n := 66) dX7_winter_64 rfl 4 rfl ?_
  refine z_iload_n (n := 67) dX7_winter_66 rfl 1 rfl rfl ?_
  refine z_icmp_ge (n := 70) (t := 84) dX7_winter_67 rfl (by decide) (fun hc => ?_) (fun hc => ?_)
  · replace hF := (if_pos hc).symm.trans hF
    refine z_sub [0, 2, 3] rfl ?_
    have hF := Option.some.inj hF; subst hF
    exact kx _ rfl
  · replace hF := (if_neg hc).symm.trans hF
    refine z_aload_n (n := 71) dX7_winter_70 rfl 0 rfl rfl ?_
    obtain ⟨I_16, c_15, hF⟩ := zb1_some hF
    refine z_cV (n := 74) (st := []) (C_X7_frost htr hM c_15) dX7_winter_71 rfl (lw_V q2270 q2272 qs102 q131 q2273) hcee_X7_frost rfl (by decide) hM.1 rfl rfl rfl (Nat.le_of_ble_eq_true rfl) (Nat.le_refl _) (Nat.le_refl _) ?_
    refine z_aload_n (n := 75) dX7_winter_74 rfl 0 rfl rfl ?_
    obtain ⟨I_18, c_17, hF⟩ := zb1_some hF
    refine z_cV (n := 78) (st := []) (C_X7_aYear htr hM c_17) dX7_winter_75 rfl (lw_V q2089 q2091 qs86 q131 q2092) hcee_X7_aYear rfl (by decide) hM.1 rfl rfl rfl (Nat.le_of_ble_eq_true rfl) (Nat.le_refl _) (Nat.le_refl _) ?_
    obtain ⟨v5_19, e_20, hF⟩ := zlet_ob hF
    refine z_iincE (n := 81) (w := 1) (v := v5_19) (lv' := [(5, .int v5_19), (0, .ref 1860), (2, .int a1), (3, .int a2), (4, .int x_12)]) dX7_winter_78 rfl 4 rfl (by decide) e_20 (by decide) rfl ?_
    refine z_goto (t := 64) dX7_winter_81 (by decide) ?_
    refine z_sub [1, 2, 3, 4, 0] rfl ?_
    have hF := Option.some.inj hF; subst hF
    exact kl _ _ rfl
set_option maxHeartbeats 1000000 in
theorem W_X7_winter_L90 {l : Launch} {G : zGt} (htr : l.stackTraces = false) {K : zKd} {F : zFd} {L : zLd} {Q : zQt} {a0 : Int32} {a1 : Int32} {a2 : Int32} {x_12 : Int32} {I_21 : zId} {v5_23 : Int32} {v6_24 : Int32} (hM : zMLay K F) {r : (Int32 × Int32) ⊕ (Int32)} (hF : F_X7_winter_L90 I_21 v5_23 v6_24 = some r) (kl : ∀ (z0 : Int32) (z1 : Int32), r = .inl (z0, z1) → zW l G MX7_winter 5 113 0 0 90 [(0, .ref 1860), (3, .int a2), (4, .int x_12), (5, .int z0), (6, .int z1)] [] K F I_21 L Q) (kx : ∀ (y0 : Int32), r = .inr y0 → zW l G MX7_winter 5 113 0 0 127 [(0, .ref 1860), (3, .int a2), (4, .int x_12), (5, .int y0)] [] K F I_21 L Q)  : zW l G MX7_winter 5 113 0 0 90 [(0, .ref 1860), (3, .int a2), (4, .int x_12), (5, .int v5_23), (6, .int v6_24)] [] K F I_21 L Q := by
  unfold F_X7_winter_L90 at hF
  refine z_iload (n := 92) dX7_winter_90 rfl 4 rfl ?_
  refine z_aload_n (n := 93) dX7_winter_92 rfl 0 rfl rfl ?_
  refine z_getRS (n := 96) dX7_winter_93 rfl zok6 fX7_29 rfl hM.1 (Or.inl (by decide)) (mF_2 hM) ?_
  refine z_iconst (n := 97) (v := 0) dX7_winter_96 rfl (by decide) ?_
  refine z_ialdK (n := 98) 0 (by decide) dX7_winter_97 rfl (mK_2 hM) (zin_ok (i := 0) (n := 16) rfl) ?_
  refine z_icmp_ge (n := 101) (t := 127) dX7_winter_98 rfl (by decide) (fun hc => ?_) (fun hc => ?_)
  · replace hF := (if_pos hc).symm.trans hF
    refine z_sub [0, 1, 2, 3] rfl ?_
    have hF := Option.some.inj hF; subst hF
    exact kx _ rfl
  · replace hF := (if_neg hc).symm.trans hF
    refine z_iload (n := 103) dX7_winter_101 rfl 3 rfl ?_
    refine z_aload_n (n := 104) dX7_winter_103 rfl 0 rfl rfl ?_
    refine z_getRS (n := 107) dX7_winter_104 rfl zok6 fX7_72 rfl hM.1 (Or.inl (by decide)) (mF_25 hM) ?_
    refine z_iload (n := 109) dX7_winter_107 rfl 4 rfl ?_
    obtain ⟨h_25, hF⟩ := zg_some hF
    refine z_ialdK (n := 110) v6_24.toNatClampNeg rfl dX7_winter_109 rfl (mK_25 hM) (zin_ok h_25) ?_
    obtain ⟨k_27, e_28, hF⟩ := zlet_ob hF
    have H_29 : ∀ (w_26 : Int32), k_27 w_26 = some r → zW l G MX7_winter 5 113 0 0 118 [(0, .ref 1860), (3, .int a2), (4, .int x_12), (6, .int v6_24)] [.int w_26, .int v5_23] K F I_21 L Q := by
      intro w_26 hF
      subst e_28
      dsimp only at hF
      refine z_iadd (n := 119) dX7_winter_118 rfl ?_
      obtain ⟨v5_30, e_31, hF⟩ := zlet_ob hF
      refine z_istoreE (n := 121) (lv' := [(5, .int v5_30), (0, .ref 1860), (3, .int a2), (4, .int x_12), (6, .int v6_24)]) dX7_winter_119 rfl e_31 (by decide) rfl ?_
      obtain ⟨v6_32, e_33, hF⟩ := zlet_ob hF
      refine z_iincE (n := 124) (w := 1) (v := v6_32) (lv' := [(6, .int v6_32), (5, .int v5_30), (0, .ref 1860), (3, .int a2), (4, .int x_12)]) dX7_winter_121 rfl 4 rfl (by decide) e_33 (by decide) rfl ?_
      refine z_goto (t := 90) dX7_winter_124 (by decide) ?_
      refine z_sub [2, 3, 4, 1, 0] rfl ?_
      have hF := Option.some.inj hF; subst hF
      exact kl _ _ rfl
    clear e_28
    refine z_if_ne (n := 113) (t := 117) dX7_winter_110 rfl (by decide) (fun hc => ?_) (fun hc => ?_)
    · replace hF := (if_pos hc).symm.trans hF
      refine z_iconst (n := 118) (v := 0) dX7_winter_117 rfl (by decide) ?_
      refine z_sub [0, 1, 2, 4] rfl ?_
      exact H_29 _ hF
    · replace hF := (if_neg hc).symm.trans hF
      refine z_iconst (n := 114) (v := 1) dX7_winter_113 rfl (by decide) ?_
      refine z_goto (t := 118) dX7_winter_114 (by decide) ?_
      refine z_sub [0, 1, 2, 4] rfl ?_
      exact H_29 _ hF
set_option maxHeartbeats 1000000 in
theorem C_X7_winter {l : Launch} {G : zGt} (htr : l.stackTraces = false) {K : zKd} {F : zFd} {L : zLd} {a0 : Int32} {a1 : Int32} {a2 : Int32} (hM : zMLay K F) {I : zId} {r : Int32 × zId} (hF : F_X7_winter a0 a1 a2 I = some r) : zMet l G yX7_winter (ws_ yX7_winter cX7_winter 7 (some .int)) 5 113 0 0 [.ref 1860, .int a0, .int a1, .int a2] K F I L (zQe (.inl (some (.int r.1))) K F r.2 L) := by
  refine zMet.of (by decide +kernel) htr (Nat.le_of_ble_eq_true rfl) ?_
  change zW l G MX7_winter 5 113 0 0 0 [(0, .ref 1860), (1, .int a0), (2, .int a1), (3, .int a2)] [] K F I L (zQe (.inl (some (.int r.1))) K F r.2 L)
  unfold F_X7_winter at hF
  refine z_aload_n (n := 1) dX7_winter_0 rfl 0 rfl rfl ?_
  refine z_iconst (n := 2) (v := 0) dX7_winter_1 rfl (by decide) ?_
  obtain ⟨I_1, e_2, hF⟩ := zlet_ob hF
  refine z_putIE (n := 5) dX7_winter_2 rfl zok6 fX7_150 (Or.inl ⟨_, rfl, rfl⟩) rfl ⟨rfl, rfl⟩ hM.1 (by decide) e_2 ?_
  refine z_iload_n (n := 6) dX7_winter_5 rfl 3 rfl rfl ?_
  refine z_i2l (n := 7) dX7_winter_6 rfl ?_
  refine z_lconst (n := 8) (v := 0) dX7_winter_7 rfl (by decide) ?_
  refine z_ldc2 (n := 11) dX7_winter_8 rfl q2237 ?_
  obtain ⟨x_4, c_3, hF⟩ := zb1_some hF
  refine z_cS (n := 14) (st := []) (C_X7_isIn htr c_3) dX7_winter_11 rfl (lw_S q2030 q2031 q131 q2032) hcee_X7_isIn rfl (by decide) rfl (Nat.le_of_ble_eq_true rfl) (Nat.le_refl _) (Nat.le_refl _) ?_
  refine z_if_ne (n := 17) (t := 23) dX7_winter_14 rfl (by decide) (fun hc => ?_) (fun hc => ?_)
  · replace hF := (if_pos hc).symm.trans hF
    refine z_iload_n (n := 24) dX7_winter_23 rfl 2 rfl rfl ?_
    refine z_i2l (n := 25) dX7_winter_24 rfl ?_
    refine z_lconst (n := 26) (v := 0) dX7_winter_25 rfl (by decide) ?_
    refine z_ldc2 (n := 29) dX7_winter_26 rfl q2121 ?_
    obtain ⟨x_6, c_5, hF⟩ := zb1_some hF
    refine z_cS (n := 32) (st := []) (C_X7_isIn htr c_5) dX7_winter_29 rfl (lw_S q2030 q2031 q131 q2032) hcee_X7_isIn rfl (by decide) rfl (Nat.le_of_ble_eq_true rfl) (Nat.le_refl _) (Nat.le_refl _) ?_
    refine z_if_ne (n := 35) (t := 41) dX7_winter_32 rfl (by decide) (fun hc => ?_) (fun hc => ?_)
    · replace hF := (if_pos hc).symm.trans hF
      refine z_aload_n (n := 42) dX7_winter_41 rfl 0 rfl rfl ?_
      refine z_aload_n (n := 43) dX7_winter_42 rfl 0 rfl rfl ?_
      refine z_getRS (n := 46) dX7_winter_43 rfl zok6 fX7_102 rfl hM.1 (Or.inl (by decide)) (mF_42 hM) ?_
      refine z_iconst (n := 47) (v := 0) dX7_winter_46 rfl (by decide) ?_
      obtain ⟨I_8, c_7, hF⟩ := zb1_some hF
      refine z_cV (n := 50) (st := []) (C_X7_pack htr hM (mK_42 hM) (by decide) c_7) dX7_winter_47 rfl (lw_V q2081 q2083 qs84 q131 q2084) hcee_X7_pack rfl (by decide) hM.1 rfl rfl rfl (Nat.le_of_ble_eq_true rfl) (Nat.le_refl _) (Nat.le_refl _) ?_
      refine z_aload_n (n := 51) dX7_winter_50 rfl 0 rfl rfl ?_
      refine z_iload_n (n := 52) dX7_winter_51 rfl 1 rfl rfl ?_
      obtain ⟨I_9, e_10, hF⟩ := zlet_ob hF
      refine z_putIE (n := 55) dX7_winter_52 rfl zok6 fX7_453 (Or.inl ⟨_, rfl, rfl⟩) rfl ⟨rfl, rfl⟩ hM.1 (by decide) e_10 ?_
      refine z_aload_n (n := 56) dX7_winter_55 rfl 0 rfl rfl ?_
      obtain ⟨x_12, c_11, hF⟩ := zb1_some hF
      refine z_cV (n := 59) (st := []) (C_X7_allDead htr hM c_11) dX7_winter_56 rfl (lw_V q2155 q2157 qs92 q131 q2158) hcee_X7_allDead rfl (by decide) hM.1 rfl rfl rfl (Nat.le_of_ble_eq_true rfl) (Nat.le_refl _) (Nat.le_refl _) ?_
      refine z_istoreE (n := 61) (lv' := [(4, .int x_12), (0, .ref 1860), (1, .int a0), (2, .int a1), (3, .int a2)]) dX7_winter_59 rfl rfl (by decide) rfl ?_
      refine z_iconst (n := 62) (v := 0) dX7_winter_61 rfl (by decide) ?_
      refine z_istoreE (n := 64) (lv' := [(5, .int 0), (4, .int x_12), (0, .ref 1860), (1, .int a0), (2, .int a1), (3, .int a2)]) dX7_winter_62 rfl rfl (by decide) rfl ?_
      refine z_sub [2, 4, 5, 1, 0] rfl ?_
      obtain ⟨t_48, e_22, hF⟩ := zb1_some hF
      obtain ⟨I_21, rfl⟩ : ∃ z, z = t_48 := ⟨_, rfl⟩
      have H_49 : zW l G MX7_winter 5 113 0 0 84 [(0, .ref 1860), (3, .int a2), (4, .int x_12)] [] K F I_21 L (zQe (.inl (some (.int r.1))) K F r.2 L) := by
        refine z_iconst (n := 85) (v := 0) dX7_winter_84 rfl (by decide) ?_
        refine z_istoreE (n := 87) (lv' := [(5, .int 0), (0, .ref 1860), (3, .int a2), (4, .int x_12)]) dX7_winter_85 rfl rfl (by decide) rfl ?_
        refine z_iconst (n := 88) (v := 0) dX7_winter_87 rfl (by decide) ?_
        refine z_istoreE (n := 90) (lv' := [(6, .int 0), (5, .int 0), (0, .ref 1860), (3, .int a2), (4, .int x_12)]) dX7_winter_88 rfl rfl (by decide) rfl ?_
        refine z_sub [2, 3, 4, 1, 0] rfl ?_
        obtain ⟨t_46, e_35, hF⟩ := zb1_some hF
        obtain ⟨v5_34, rfl⟩ : ∃ z, z = t_46 := ⟨_, rfl⟩
        have H_47 : zW l G MX7_winter 5 113 0 0 127 [(0, .ref 1860), (3, .int a2), (4, .int x_12), (5, .int v5_34)] [] K F I_21 L (zQe (.inl (some (.int r.1))) K F r.2 L) := by
          refine z_iload_n (n := 128) dX7_winter_127 rfl 1 rfl rfl ?_
          obtain ⟨k_37, e_38, hF⟩ := zlet_ob hF
          have H_39 : ∀ (w_36 : Int32), k_37 w_36 = some r → zW l G MX7_winter 5 113 0 0 155 [(0, .ref 1860)] [.int w_36] K F I_21 L (zQe (.inl (some (.int r.1))) K F r.2 L) := by
            intro w_36 hF
            subst e_38
            dsimp only at hF
            refine z_istoreE (n := 157) (lv' := [(6, .int w_36), (0, .ref 1860)]) dX7_winter_155 rfl rfl (by decide) rfl ?_
            refine z_aload_n (n := 158) dX7_winter_157 rfl 1 rfl rfl ?_
            refine z_aload_n (n := 159) dX7_winter_158 rfl 1 rfl rfl ?_
            refine z_getRS (n := 162) dX7_winter_159 rfl zok6 fX7_102 rfl hM.1 (Or.inl (by decide)) (mF_42 hM) ?_
            refine z_iconst (n := 163) (v := 0) dX7_winter_162 rfl (by decide) ?_
            obtain ⟨I_41, c_40, hF⟩ := zb1_some hF
            refine z_cV (n := 166) (st := []) (C_X7_unpack htr hM (mK_42 hM) (by decide) c_40) dX7_winter_163 rfl (lw_V q2135 q2137 qs91 q131 q2138) hcee_X7_unpack rfl (by decide) hM.1 rfl rfl rfl (Nat.le_of_ble_eq_true rfl) (Nat.le_refl _) (Nat.le_refl _) ?_
            refine z_iload (n := 168) dX7_winter_166 rfl 0 rfl ?_
            have hF := Option.some.inj hF; subst hF
            exact z_iret dX7_winter_168 rfl rfl ⟨rfl, rfl, rfl, rfl, rfl⟩
          clear e_38
          refine z_if_ne (n := 131) (t := 138) dX7_winter_128 rfl (by decide) (fun hc => ?_) (fun hc => ?_)
          · replace hF := (if_pos hc).symm.trans hF
            refine z_iload_n (n := 139) dX7_winter_138 rfl 1 rfl rfl ?_
            refine z_iconst (n := 140) (v := 1) dX7_winter_139 rfl (by decide) ?_
            refine z_icmp_ne (n := 143) (t := 153) dX7_winter_140 rfl (by decide) (fun hc => ?_) (fun hc => ?_)
            · replace hF := (if_pos hc).symm.trans hF
              refine z_iload (n := 155) dX7_winter_153 rfl 3 rfl ?_
              refine z_sub [0] rfl ?_
              exact H_39 _ hF
            · replace hF := (if_neg hc).symm.trans hF
              refine z_aload_n (n := 144) dX7_winter_143 rfl 0 rfl rfl ?_
              obtain ⟨x_43, c_42, hF⟩ := zb1_some hF
              refine z_cV (n := 147) (st := []) (C_X7_allDead htr hM c_42) dX7_winter_144 rfl (lw_V q2155 q2157 qs92 q131 q2158) hcee_X7_allDead rfl (by decide) hM.1 rfl rfl rfl (Nat.le_of_ble_eq_true rfl) (Nat.le_refl _) (Nat.le_refl _) ?_
              refine z_iload (n := 149) dX7_winter_147 rfl 2 rfl ?_
              refine z_isub (n := 150) dX7_winter_149 rfl ?_
              refine z_goto (t := 155) dX7_winter_150 (by decide) ?_
              refine z_sub [0] rfl ?_
              exact H_39 _ hF
          · replace hF := (if_neg hc).symm.trans hF
            refine z_aload_n (n := 132) dX7_winter_131 rfl 0 rfl rfl ?_
            obtain ⟨x_45, c_44, hF⟩ := zb1_some hF
            refine z_cV (n := 135) (st := []) (C_X7_allSables htr hM c_44) dX7_winter_132 rfl (lw_V q2018 q2020 qs74 q131 q2021) hcee_X7_allSables rfl (by decide) hM.1 rfl rfl rfl (Nat.le_of_ble_eq_true rfl) (Nat.le_refl _) (Nat.le_refl _) ?_
            refine z_goto (t := 155) dX7_winter_135 (by decide) ?_
            refine z_sub [0] rfl ?_
            exact H_39 _ hF
        refine zloop_ind (P := fun s : Int32 × Int32 => zW l G MX7_winter 5 113 0 0 90 [(0, .ref 1860), (3, .int a2), (4, .int x_12), (5, .int s.1), (6, .int s.2)] [] K F I_21 L (zQe (.inl (some (.int r.1))) K F r.2 L)) (fun s r hb kl kr => ?_) e_35
        exact W_X7_winter_L90 (a0 := a0) (a1 := a1) (a2 := a2) htr hM hb (fun z0 z1 e => kl _ e) (fun y0 e => by cases kr _ e; exact H_47)
      refine zloop_ind (P := fun s : Int32 × zId => zW l G MX7_winter 5 113 0 0 64 [(0, .ref 1860), (2, .int a1), (3, .int a2), (4, .int x_12), (5, .int s.1)] [] K F s.2 L (zQe (.inl (some (.int r.1))) K F r.2 L)) (fun s r hb kl kr => ?_) e_22
      exact W_X7_winter_L64 (a0 := a0) (a1 := a1) (a2 := a2) htr hM hb (fun z0 z1 e => kl _ e) (fun y0 e => by cases kr _ e; exact H_49)
    · replace hF := (if_neg hc).symm.trans hF
      refine z_aload_n (n := 36) dX7_winter_35 rfl 0 rfl rfl ?_
      refine z_iconst (n := 37) (v := 2) dX7_winter_36 rfl (by decide) ?_
      obtain ⟨x_51, I_52, c_50, hF⟩ := zb2_some hF
      refine z_cV (n := 40) (st := []) (C_X7_fail htr hM c_50) dX7_winter_37 rfl (lw_V q1879 q1881 qs48 q131 q1882) hcee_X7_fail rfl (by decide) hM.1 rfl rfl rfl (Nat.le_of_ble_eq_true rfl) (Nat.le_refl _) (Nat.le_refl _) ?_
      have hF := Option.some.inj hF; subst hF
      exact z_iret dX7_winter_40 rfl rfl ⟨rfl, rfl, rfl, rfl, rfl⟩
  · replace hF := (if_neg hc).symm.trans hF
    refine z_aload_n (n := 18) dX7_winter_17 rfl 0 rfl rfl ?_
    refine z_iconst (n := 19) (v := 1) dX7_winter_18 rfl (by decide) ?_
    obtain ⟨x_54, I_55, c_53, hF⟩ := zb2_some hF
    refine z_cV (n := 22) (st := []) (C_X7_fail htr hM c_53) dX7_winter_19 rfl (lw_V q1879 q1881 qs48 q131 q1882) hcee_X7_fail rfl (by decide) hM.1 rfl rfl rfl (Nat.le_of_ble_eq_true rfl) (Nat.le_refl _) (Nat.le_refl _) ?_
    have hF := Option.some.inj hF; subst hF
    exact z_iret dX7_winter_22 rfl rfl ⟨rfl, rfl, rfl, rfl, rfl⟩
