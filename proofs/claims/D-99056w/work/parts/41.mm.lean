theorem fX7_65_6 : zFld RX7 65 6 14 := ⟨_, rfl, by decide, _, Or.inl q1691, Or.inl rfl⟩
theorem fX7_170_6 : zFld RX7 170 6 20 := ⟨_, rfl, by decide, _, Or.inl q1697, Or.inl rfl⟩
theorem fX7_173_6 : zFld RX7 173 6 18 := ⟨_, rfl, by decide, _, Or.inl q1695, Or.inl rfl⟩
theorem fX7_196_6 : zFld RX7 196 6 21 := ⟨_, rfl, by decide, _, Or.inl q1698, Or.inl rfl⟩
theorem fX7_199_6 : zFld RX7 199 6 22 := ⟨_, rfl, by decide, _, Or.inl q1699, Or.inl rfl⟩
theorem hcee_J9_length : zCee yJ9_length RJ9 0 := ⟨rfl, by decide +kernel, by decide +kernel, by decide +kernel⟩
abbrev MX7_is : zM := (RX7, cX7_is, 4, (some .boolean), "is", [])
noncomputable def F_X7_is_L39 (K : zKd) (F : zFd) (a0 : Nat) (I : zId) (v2_5 : Int32) (v3_6 : Int32) : Option ((Int32 × Int32) ⊕ (Int32)) := if v2_5 = 0 then some (.inr (v2_5)) else zka K a0 15 (fun n_7 => zb1 (F_J9_length K F a0 I) (fun x_10 => if x_10 ≤ v3_6 then some (.inr (v2_5)) else zb1 (F_J9_charAt K F a0 v3_6 I) (fun x_12 => zg (zin ((I 1860 20) + v3_6) 700) (if ¬ x_12 = (I 1874 (((I 1860 20) + v3_6).toNatClampNeg)) then zlet (v3_6 + 1) (fun v3_14 => some (.inl (0, v3_14))) else zlet (v3_6 + 1) (fun v3_16 => some (.inl (1, v3_16)))))))
noncomputable def F_X7_is (K : zKd) (F : zFd) (a0 : Nat) (I : zId) : Option (Int32) := zlet (fun (w_1 : Int32) => zb1 (zloop (fun s : Int32 × Int32 => F_X7_is_L39 K F a0 I s.1 s.2) (w_1, 0)) (fun v2_18 => zg (zfitsZ v2_18) (some v2_18))) (fun k_2 => if ¬ (I 1860 22) = 0 then k_2 0 else if ¬ (I 1860 18) = 1 then k_2 0 else zka K a0 15 (fun n_23 => zb1 (F_J9_length K F a0 I) (fun x_26 => if ¬ x_26 = ((I 1860 21) - (I 1860 20)) then k_2 0 else k_2 1)))
set_option maxHeartbeats 1000000 in
theorem W_X7_is_L39 {l : Launch} {G : zGt} (htr : l.stackTraces = false) {K : zKd} {F : zFd} {L : zLd} {Q : zQt} {a0 : Nat} {I : zId} {v2_5 : Int32} {v3_6 : Int32} (hM : zMLay K F) {r : (Int32 × Int32) ⊕ (Int32)} (hF : F_X7_is_L39 K F a0 I v2_5 v3_6 = some r) (kl : ∀ (z0 : Int32) (z1 : Int32), r = .inl (z0, z1) → zW l G MX7_is 4 85 0 0 39 [(0, .ref 1860), (1, .ref a0), (2, .int z0), (3, .int z1)] [] K F I L Q) (kx : ∀ (y0 : Int32), r = .inr y0 → zW l G MX7_is 4 85 0 0 82 [(2, .int y0)] [] K F I L Q)  : zW l G MX7_is 4 85 0 0 39 [(0, .ref 1860), (1, .ref a0), (2, .int v2_5), (3, .int v3_6)] [] K F I L Q := by
  unfold F_X7_is_L39 at hF
  refine z_iload_n (n := 40) dX7_is_39 rfl 2 rfl rfl ?_
  refine z_if_eq (n := 43) (t := 82) dX7_is_40 rfl (by decide) (fun hc => ?_) (fun hc => ?_)
  · replace hF := (if_pos hc).symm.trans hF
    refine z_sub [2] rfl ?_
    have hF := Option.some.inj hF; subst hF
    exact kx v2_5 rfl
  · replace hF := (if_neg hc).symm.trans hF
    refine z_iload_n (n := 44) dX7_is_43 rfl 3 rfl rfl ?_
    refine z_aload_n (n := 45) dX7_is_44 rfl 1 rfl rfl ?_
    obtain ⟨n_7, hk_8, hF⟩ := zka_some hF
    obtain ⟨x_10, c_9, hF⟩ := zb1_some hF
    refine z_cV (n := 48) (st := [.int v3_6]) (C_J9_length htr c_9) dX7_is_45 rfl (lw_V q1911 q327 q328 q116 q329) hcee_J9_length rfl (by decide) hk_8 rfl rfl rfl (Nat.le_of_ble_eq_true rfl) (Nat.le_refl _) (Nat.le_refl _) ?_
    refine z_icmp_ge (n := 51) (t := 82) dX7_is_48 rfl (by decide) (fun hc => ?_) (fun hc => ?_)
    · replace hF := (if_pos hc).symm.trans hF
      refine z_sub [2] rfl ?_
      have hF := Option.some.inj hF; subst hF
      exact kx v2_5 rfl
    · replace hF := (if_neg hc).symm.trans hF
      refine z_aload_n (n := 52) dX7_is_51 rfl 1 rfl rfl ?_
      refine z_iload_n (n := 53) dX7_is_52 rfl 3 rfl rfl ?_
      obtain ⟨x_12, c_11, hF⟩ := zb1_some hF
      refine z_cV (n := 56) (st := []) (C_J9_charAt htr c_11) dX7_is_53 rfl (lw_V q1912 q1295 q1296 q116 q1297) hcee_J9_charAt rfl (by decide) hk_8 rfl rfl rfl (Nat.le_of_ble_eq_true rfl) (Nat.le_refl _) (Nat.le_refl _) ?_
      refine z_aload_n (n := 57) dX7_is_56 rfl 0 rfl rfl ?_
      refine z_getRS (n := 60) dX7_is_57 rfl zok6 fX7_65_6 rfl hM.1 (Or.inl (by decide)) (mF_14 hM) ?_
      refine z_aload_n (n := 61) dX7_is_60 rfl 0 rfl rfl ?_
      refine z_getI (n := 64) dX7_is_61 rfl zok6 fX7_170_6 rfl hM.1 (Or.inl (by decide)) ?_
      refine z_iload_n (n := 65) dX7_is_64 rfl 3 rfl rfl ?_
      refine z_iadd (n := 66) dX7_is_65 rfl ?_
      obtain ⟨h_13, hF⟩ := zg_some hF
      refine z_ialdK (n := 67) (((I 1860 20) + v3_6).toNatClampNeg) rfl dX7_is_66 rfl (mK_14 hM) (zin_ok h_13) ?_
      refine z_icmp_ne (n := 70) (t := 74) dX7_is_67 rfl (by decide) (fun hc => ?_) (fun hc => ?_)
      · replace hF := (if_pos hc).symm.trans hF
        refine z_iconst (n := 75) (v := 0) dX7_is_74 rfl (by decide) ?_
        refine z_istore_nE (n := 76) (lv' := [(2, .int 0), (0, .ref 1860), (1, .ref a0), (3, .int v3_6)]) dX7_is_75 rfl rfl rfl (by decide) rfl ?_
        obtain ⟨v3_14, e_15, hF⟩ := zlet_ob hF
        refine z_iincE (n := 79) (w := 1) (v := v3_14) (lv' := [(3, .int v3_14), (2, .int 0), (0, .ref 1860), (1, .ref a0)]) dX7_is_76 rfl 3 rfl (by decide) e_15 (by decide) rfl ?_
        refine z_goto (t := 39) dX7_is_79 (by decide) ?_
        refine z_sub [2, 3, 1, 0] rfl ?_
        have hF := Option.some.inj hF; subst hF
        exact kl 0 v3_14 rfl
      · replace hF := (if_neg hc).symm.trans hF
        refine z_iconst (n := 71) (v := 1) dX7_is_70 rfl (by decide) ?_
        refine z_goto (t := 75) dX7_is_71 (by decide) ?_
        refine z_istore_nE (n := 76) (lv' := [(2, .int 1), (0, .ref 1860), (1, .ref a0), (3, .int v3_6)]) dX7_is_75 rfl rfl rfl (by decide) rfl ?_
        obtain ⟨v3_16, e_17, hF⟩ := zlet_ob hF
        refine z_iincE (n := 79) (w := 1) (v := v3_16) (lv' := [(3, .int v3_16), (2, .int 1), (0, .ref 1860), (1, .ref a0)]) dX7_is_76 rfl 3 rfl (by decide) e_17 (by decide) rfl ?_
        refine z_goto (t := 39) dX7_is_79 (by decide) ?_
        refine z_sub [2, 3, 1, 0] rfl ?_
        have hF := Option.some.inj hF; subst hF
        exact kl 1 v3_16 rfl
set_option maxHeartbeats 1000000 in
theorem C_X7_is {l : Launch} {G : zGt} (htr : l.stackTraces = false) {K : zKd} {F : zFd} {L : zLd} {a0 : Nat} (hM : zMLay K F) {I : zId} {r : Int32} (hF : F_X7_is K F a0 I = some r) : zMet l G yX7_is (ws_ yX7_is cX7_is 4 (some .boolean)) 4 85 0 0 [.ref 1860, .ref a0] K F I L (zQe (.inl (some (.int r))) K F I L) := by
  refine zMet.of (by decide +kernel) htr (Nat.le_of_ble_eq_true rfl) ?_
  change zW l G MX7_is 4 85 0 0 0 [(0, .ref 1860), (1, .ref a0)] [] K F I L (zQe (.inl (some (.int r))) K F I L)
  unfold F_X7_is at hF
  refine z_aload_n (n := 1) dX7_is_0 rfl 0 rfl rfl ?_
  refine z_getI (n := 4) dX7_is_1 rfl zok6 fX7_199_6 rfl hM.1 (Or.inl (by decide)) ?_
  obtain ⟨k_2, e_3, hF⟩ := zlet_ob hF
  have H_4 : ∀ (w_1 : Int32), k_2 w_1 = some r → zW l G MX7_is 4 85 0 0 36 [(0, .ref 1860), (1, .ref a0)] [.int w_1] K F I L (zQe (.inl (some (.int r))) K F I L) := by
    intro w_1 hF
    subst e_3
    dsimp only at hF
    refine z_istore_nE (n := 37) (lv' := [(2, .int w_1), (0, .ref 1860), (1, .ref a0)]) dX7_is_36 rfl rfl rfl (by decide) rfl ?_
    refine z_iconst (n := 38) (v := 0) dX7_is_37 rfl (by decide) ?_
    refine z_istore_nE (n := 39) (lv' := [(3, .int 0), (2, .int w_1), (0, .ref 1860), (1, .ref a0)]) dX7_is_38 rfl rfl rfl (by decide) rfl ?_
    refine z_sub [2, 3, 1, 0] rfl ?_
    obtain ⟨t_21, e_20, hF⟩ := zb1_some hF
    obtain ⟨v2_18, rfl⟩ : ∃ z, z = t_21 := ⟨_, rfl⟩
    have H_22 : zW l G MX7_is 4 85 0 0 82 [(2, .int v2_18)] [] K F I L (zQe (.inl (some (.int r))) K F I L) := by
      refine z_iload_n (n := 83) dX7_is_82 rfl 0 rfl rfl ?_
      obtain ⟨h_19, hF⟩ := zg_some hF
      have hF := Option.some.inj hF; subst hF
      exact z_iret dX7_is_83 rfl (zfitsZ_ok h_19).1 ⟨rfl, rfl, rfl, rfl, rfl⟩
    refine zloop_ind (P := fun s : Int32 × Int32 => zW l G MX7_is 4 85 0 0 39 [(0, .ref 1860), (1, .ref a0), (2, .int s.1), (3, .int s.2)] [] K F I L (zQe (.inl (some (.int r))) K F I L)) (fun s r hb kl kr => ?_) e_20
    exact W_X7_is_L39 (a0 := a0) htr hM hb (fun z0 z1 e => kl _ e) (fun y0 e => by cases kr _ e; exact H_22)
  clear e_3
  refine z_if_ne (n := 7) (t := 35) dX7_is_4 rfl (by decide) (fun hc => ?_) (fun hc => ?_)
  · replace hF := (if_pos hc).symm.trans hF
    refine z_iconst (n := 36) (v := 0) dX7_is_35 rfl (by decide) ?_
    exact H_4 0 hF
  · replace hF := (if_neg hc).symm.trans hF
    refine z_aload_n (n := 8) dX7_is_7 rfl 0 rfl rfl ?_
    refine z_getI (n := 11) dX7_is_8 rfl zok6 fX7_173_6 rfl hM.1 (Or.inl (by decide)) ?_
    refine z_iconst (n := 12) (v := 1) dX7_is_11 rfl (by decide) ?_
    refine z_icmp_ne (n := 15) (t := 35) dX7_is_12 rfl (by decide) (fun hc => ?_) (fun hc => ?_)
    · replace hF := (if_pos hc).symm.trans hF
      refine z_iconst (n := 36) (v := 0) dX7_is_35 rfl (by decide) ?_
      exact H_4 0 hF
    · replace hF := (if_neg hc).symm.trans hF
      refine z_aload_n (n := 16) dX7_is_15 rfl 1 rfl rfl ?_
      obtain ⟨n_23, hk_24, hF⟩ := zka_some hF
      obtain ⟨x_26, c_25, hF⟩ := zb1_some hF
      refine z_cV (n := 19) (st := []) (C_J9_length htr c_25) dX7_is_16 rfl (lw_V q1911 q327 q328 q116 q329) hcee_J9_length rfl (by decide) hk_24 rfl rfl rfl (Nat.le_of_ble_eq_true rfl) (Nat.le_refl _) (Nat.le_refl _) ?_
      refine z_aload_n (n := 20) dX7_is_19 rfl 0 rfl rfl ?_
      refine z_getI (n := 23) dX7_is_20 rfl zok6 fX7_196_6 rfl hM.1 (Or.inl (by decide)) ?_
      refine z_aload_n (n := 24) dX7_is_23 rfl 0 rfl rfl ?_
      refine z_getI (n := 27) dX7_is_24 rfl zok6 fX7_170_6 rfl hM.1 (Or.inl (by decide)) ?_
      refine z_isub (n := 28) dX7_is_27 rfl ?_
      refine z_icmp_ne (n := 31) (t := 35) dX7_is_28 rfl (by decide) (fun hc => ?_) (fun hc => ?_)
      · replace hF := (if_pos hc).symm.trans hF
        refine z_iconst (n := 36) (v := 0) dX7_is_35 rfl (by decide) ?_
        exact H_4 0 hF
      · replace hF := (if_neg hc).symm.trans hF
        refine z_iconst (n := 32) (v := 1) dX7_is_31 rfl (by decide) ?_
        refine z_goto (t := 36) dX7_is_32 (by decide) ?_
        exact H_4 1 hF
theorem hcee_X7_is : zCee yX7_is RX7 1 := ⟨rfl, by decide +kernel, by decide +kernel, by decide +kernel⟩
abbrev MX7_which : zM := (RX7, cX7_which, 3, (some .int), "which", [])
noncomputable def F_X7_which_L2 (K : zKd) (F : zFd) (a0 : Nat) (I : zId) (v2_1 : Int32) : Option ((Int32) ⊕ ((Unit) ⊕ (Int32))) := zka K a0 69 (fun n_2 => if (nI n_2) ≤ v2_1 then some (.inr (.inl ())) else zg (zin v2_1 n_2) (zb1 (F a0 v2_1.toNatClampNeg) (fun o_5 => zb1 (F_X7_is K F o_5 I) (fun x_8 => if x_8 = 0 then zlet (v2_1 + 1) (fun v2_9 => some (.inl v2_9)) else some (.inr (.inr v2_1))))))
noncomputable def F_X7_which (K : zKd) (F : zFd) (a0 : Nat) (I : zId) : Option (Int32) := zs1 (zloop (fun s : Int32 => F_X7_which_L2 K F a0 I s) 0) (fun u_11 => some (-1)) (fun z_13 => some z_13)
set_option maxHeartbeats 1000000 in
theorem W_X7_which_L2 {l : Launch} {G : zGt} (htr : l.stackTraces = false) {K : zKd} {F : zFd} {L : zLd} {Q : zQt} {a0 : Nat} {I : zId} {v2_1 : Int32} (hM : zMLay K F) {r : (Int32) ⊕ ((Unit) ⊕ (Int32))} (hF : F_X7_which_L2 K F a0 I v2_1 = some r) (kl : ∀ (z0 : Int32), r = .inl z0 → zW l G MX7_which 5 108 0 0 2 [(0, .ref 1860), (1, .ref a0), (2, .int z0)] [] K F I L Q) (kx : ∀ (y0 : Unit), r = .inr (.inl y0) → zW l G MX7_which 5 108 0 0 26 [] [] K F I L Q) (kq : ∀ z : Int32, r = .inr (.inr z) → Q (.inl (some (.int z))) K F I L) : zW l G MX7_which 5 108 0 0 2 [(0, .ref 1860), (1, .ref a0), (2, .int v2_1)] [] K F I L Q := by
  unfold F_X7_which_L2 at hF
  refine z_iload_n (n := 3) dX7_which_2 rfl 2 rfl rfl ?_
  refine z_aload_n (n := 4) dX7_which_3 rfl 1 rfl rfl ?_
  obtain ⟨n_2, hk_3, hF⟩ := zka_some hF
  refine z_alen (n := 5) 5 (by decide) dX7_which_4 rfl hk_3 ?_
  refine z_icmp_ge (n := 8) (t := 26) dX7_which_5 rfl (by decide) (fun hc => ?_) (fun hc => ?_)
  · replace hF := (if_pos hc).symm.trans hF
    refine z_sub [] rfl ?_
    have hF := Option.some.inj hF; subst hF
    exact kx () rfl
  · replace hF := (if_neg hc).symm.trans hF
    refine z_aload_n (n := 9) dX7_which_8 rfl 0 rfl rfl ?_
    refine z_aload_n (n := 10) dX7_which_9 rfl 1 rfl rfl ?_
    refine z_iload_n (n := 11) dX7_which_10 rfl 2 rfl rfl ?_
    obtain ⟨h_4, hF⟩ := zg_some hF
    obtain ⟨o_5, hr_6, hF⟩ := zb1_some hF
    refine z_aald5S (n := 12) v2_1.toNatClampNeg rfl dX7_which_11 rfl hk_3 (zin_ok h_4) hr_6 ?_
    obtain ⟨x_8, c_7, hF⟩ := zb1_some hF
    refine z_cV (n := 15) (st := []) (C_X7_is htr hM c_7) dX7_which_12 rfl (lw_V q1907 q1909 qs52 q131 q1910) hcee_X7_is rfl (by decide) hM.1 rfl rfl rfl (Nat.le_of_ble_eq_true rfl) (Nat.le_refl _) (Nat.le_refl _) ?_
    refine z_if_eq (n := 18) (t := 20) dX7_which_15 rfl (by decide) (fun hc => ?_) (fun hc => ?_)
    · replace hF := (if_pos hc).symm.trans hF
      obtain ⟨v2_9, e_10, hF⟩ := zlet_ob hF
      refine z_iincE (n := 23) (w := 1) (v := v2_9) (lv' := [(2, .int v2_9), (0, .ref 1860), (1, .ref a0)]) dX7_which_20 rfl 2 rfl (by decide) e_10 (by decide) rfl ?_
      refine z_goto (t := 2) dX7_which_23 (by decide) ?_
      refine z_sub [1, 2, 0] rfl ?_
      have hF := Option.some.inj hF; subst hF
      exact kl v2_9 rfl
    · replace hF := (if_neg hc).symm.trans hF
      refine z_iload_n (n := 19) dX7_which_18 rfl 2 rfl rfl ?_
      have hF := Option.some.inj hF; subst hF
      exact z_iret dX7_which_19 rfl rfl (kq _ rfl)
set_option maxHeartbeats 1000000 in
theorem C_X7_which {l : Launch} {G : zGt} (htr : l.stackTraces = false) {K : zKd} {F : zFd} {L : zLd} {a0 : Nat} (hM : zMLay K F) {I : zId} {r : Int32} (hF : F_X7_which K F a0 I = some r) : zMet l G yX7_which (ws_ yX7_which cX7_which 3 (some .int)) 5 108 0 0 [.ref 1860, .ref a0] K F I L (zQe (.inl (some (.int r))) K F I L) := by
  refine zMet.of (by decide +kernel) htr (Nat.le_of_ble_eq_true rfl) ?_
  change zW l G MX7_which 5 108 0 0 0 [(0, .ref 1860), (1, .ref a0)] [] K F I L (zQe (.inl (some (.int r))) K F I L)
  unfold F_X7_which at hF
  refine z_iconst (n := 1) (v := 0) dX7_which_0 rfl (by decide) ?_
  refine z_istore_nE (n := 2) (lv' := [(2, .int 0), (0, .ref 1860), (1, .ref a0)]) dX7_which_1 rfl rfl rfl (by decide) rfl ?_
  refine z_sub [1, 2, 0] rfl ?_
  rcases zs1_some hF with ⟨t_14, e_12, hF⟩ | ⟨t_14, e_12, hF⟩
  · skip
    obtain ⟨u_11, rfl⟩ : ∃ z, z = t_14 := ⟨_, rfl⟩
    have H_15 : zW l G MX7_which 5 108 0 0 26 [] [] K F I L (zQe (.inl (some (.int r))) K F I L) := by
      refine z_iconst (n := 27) (v := (-1)) dX7_which_26 rfl (by decide) ?_
      have hF := Option.some.inj hF; subst hF
      exact z_iret dX7_which_27 rfl rfl ⟨rfl, rfl, rfl, rfl, rfl⟩
    refine zloop_ind (P := fun s : Int32 => zW l G MX7_which 5 108 0 0 2 [(0, .ref 1860), (1, .ref a0), (2, .int s)] [] K F I L (zQe (.inl (some (.int r))) K F I L)) (fun s r hb kl kr => ?_) e_12
    exact W_X7_which_L2 (a0 := a0) htr hM hb (fun z0 e => kl _ e) (fun y0 e => by cases kr _ e; exact H_15) (fun z e => by cases kr _ e)
  · skip
    have hq := Option.some.inj hF
    refine zloop_ind (P := fun s : Int32 => zW l G MX7_which 5 108 0 0 2 [(0, .ref 1860), (1, .ref a0), (2, .int s)] [] K F I L (zQe (.inl (some (.int r))) K F I L)) (fun s r hb kl kr => ?_) e_12
    exact W_X7_which_L2 (a0 := a0) htr hM hb (fun z0 e => kl _ e) (fun y0 e => by cases kr _ e) (fun z e => by cases kr _ e; subst hq; exact ⟨rfl, rfl, rfl, rfl, rfl⟩)
theorem fX7_25_6 : zFld RX7 25 6 0 := ⟨_, rfl, by decide, _, Or.inl q1677, Or.inl rfl⟩
theorem hcee_X7_lay : zCee yX7_lay RX7 1 := ⟨rfl, by decide +kernel, by decide +kernel, by decide +kernel⟩
theorem hcee_X7_mark : zCee yX7_mark RX7 1 := ⟨rfl, by decide +kernel, by decide +kernel, by decide +kernel⟩
theorem hcee_X7_readExpression : zCee yX7_readExpression RX7 1 := ⟨rfl, by decide +kernel, by decide +kernel, by decide +kernel⟩
theorem hcee_X7_which : zCee yX7_which RX7 1 := ⟨rfl, by decide +kernel, by decide +kernel, by decide +kernel⟩
abbrev MX7_readPart : zM := (RX7, cX7_readPart, 3, none, "readPart", [])
noncomputable def F_X7_readPart (K : zKd) (F : zFd) (ex_ : Int32 → zId → Option zId) (a0 : Int32) (I : zId) : Option (zId) := if (I 1860 22) = 0 then if ¬ (I 1860 18) = 2 then if ¬ (I 1860 18) = 1 then zb1 (F_X7_mark 40 I) (fun I_2 => zb1 (ex_ (a0 + 1) I_2) (fun I_4 => zb1 (F_X7_mark 41 I_4) (fun I_6 => some I_6))) else zb1 (F_X7_which K F 1861 I) (fun x_8 => zlet (fun (I_9 : zId) => zb1 (F_X7_lay (((-1) : Int32) - x_8) I_9) (fun I_14 => if ¬ (I_14 1860 22) = 0 then some I_14 else zb1 (F_X7_stepOn I_14) (fun I_16 => some I_16))) (fun k_10 => if ¬ x_8 = (-1) then k_10 I else zb1 (F_X7_wrong 3 I) (fun I_18 => k_10 I_18))) else zb2 (F_X7_readNumber 0 9999 I) (fun x_20 I_21 => zb1 (F_X7_lay x_20 I_21) (fun I_23 => some I_23)) else some I
set_option maxHeartbeats 1000000 in
theorem C_X7_readPart {l : Launch} {G : zGt} (htr : l.stackTraces = false) {K : zKd} {F : zFd} {L : zLd} {ex_ : Int32 → zId → Option zId} {a0 : Int32} {fb lb : Nat} (hM : zMLay K F) (hex : ∀ (a : Int32) (I r : zId), ex_ a I = some r → zMet l G yX7_readExpression (ws_ yX7_readExpression cX7_readExpression 3 none) fb lb 0 0 [.ref 1860, .int a] K F I L (zQe (.inl none) K F r L)) {I : zId} {r : zId} (hF : F_X7_readPart K F ex_ a0 I = some r) : zMet l G yX7_readPart (ws_ yX7_readPart cX7_readPart 3 none) (fb + 6) (lb + 130) 0 0 [.ref 1860, .int a0] K F I L (zQe (.inl none) K F r L) := by
  refine zMet.of (by decide +kernel) htr (by first | exact Nat.le_of_ble_eq_true rfl | omega) ?_
  change zW l G MX7_readPart (fb + 6) (lb + 130) 0 0 0 [(0, .ref 1860), (1, .int a0)] [] K F I L (zQe (.inl none) K F r L)
  unfold F_X7_readPart at hF
  refine z_aload_n (n := 1) dX7_readPart_0 rfl 0 rfl rfl ?_
  refine z_getI (n := 4) dX7_readPart_1 rfl zok6 fX7_199_6 rfl hM.1 (Or.inl (by first | decide | omega)) ?_
  refine z_if_eq (n := 7) (t := 8) dX7_readPart_4 rfl (by first | decide | omega) (fun hc => ?_) (fun hc => ?_)
  · replace hF := (if_pos hc).symm.trans hF
    refine z_aload_n (n := 9) dX7_readPart_8 rfl 0 rfl rfl ?_
    refine z_getI (n := 12) dX7_readPart_9 rfl zok6 fX7_173_6 rfl hM.1 (Or.inl (by first | decide | omega)) ?_
    refine z_iconst (n := 13) (v := 2) dX7_readPart_12 rfl (by first | decide | omega) ?_
    refine z_icmp_ne (n := 16) (t := 29) dX7_readPart_13 rfl (by first | decide | omega) (fun hc => ?_) (fun hc => ?_)
    · replace hF := (if_pos hc).symm.trans hF
      refine z_aload_n (n := 30) dX7_readPart_29 rfl 0 rfl rfl ?_
      refine z_getI (n := 33) dX7_readPart_30 rfl zok6 fX7_173_6 rfl hM.1 (Or.inl (by first | decide | omega)) ?_
      refine z_iconst (n := 34) (v := 1) dX7_readPart_33 rfl (by first | decide | omega) ?_
      refine z_icmp_ne (n := 37) (t := 75) dX7_readPart_34 rfl (by first | decide | omega) (fun hc => ?_) (fun hc => ?_)
      · replace hF := (if_pos hc).symm.trans hF
        refine z_aload_n (n := 76) dX7_readPart_75 rfl 0 rfl rfl ?_
        refine z_bipush (n := 78) (v := 40) dX7_readPart_76 rfl (by first | decide | omega) ?_
        obtain ⟨I_2, c_1, hF⟩ := zb1_some hF
        refine z_cV (n := 81) (st := []) (C_X7_mark htr hM c_1) dX7_readPart_78 rfl (lw_V q1965 q1967 qs65 q131 q1968) hcee_X7_mark rfl (by first | decide | omega) hM.1 rfl rfl rfl (by first | exact Nat.le_of_ble_eq_true rfl | omega) (Nat.le_refl _) (Nat.le_refl _) ?_
        refine z_aload_n (n := 82) dX7_readPart_81 rfl 0 rfl rfl ?_
        refine z_iload_n (n := 83) dX7_readPart_82 rfl 1 rfl rfl ?_
        refine z_iconst (n := 84) (v := 1) dX7_readPart_83 rfl (by first | decide | omega) ?_
        refine z_iadd (n := 85) dX7_readPart_84 rfl ?_
        obtain ⟨I_4, c_3, hF⟩ := zb1_some hF
        refine z_cV (n := 88) (st := []) (hex _ _ _ c_3) dX7_readPart_85 rfl (lw_V q1928 q1930 qs56 q131 q1931) hcee_X7_readExpression rfl (by first | decide | omega) hM.1 rfl rfl rfl (by first | exact Nat.le_of_ble_eq_true rfl | omega) (Nat.le_refl _) (Nat.le_refl _) ?_
        refine z_aload_n (n := 89) dX7_readPart_88 rfl 0 rfl rfl ?_
        refine z_bipush (n := 91) (v := 41) dX7_readPart_89 rfl (by first | decide | omega) ?_
        obtain ⟨I_6, c_5, hF⟩ := zb1_some hF
        refine z_cV (n := 94) (st := []) (C_X7_mark htr hM c_5) dX7_readPart_91 rfl (lw_V q1965 q1967 qs65 q131 q1968) hcee_X7_mark rfl (by first | decide | omega) hM.1 rfl rfl rfl (by first | exact Nat.le_of_ble_eq_true rfl | omega) (Nat.le_refl _) (Nat.le_refl _) ?_
        have hF := Option.some.inj hF; subst hF
        exact z_vret dX7_readPart_94 rfl ⟨rfl, rfl, rfl, rfl, rfl⟩
      · replace hF := (if_neg hc).symm.trans hF
        refine z_aload_n (n := 38) dX7_readPart_37 rfl 0 rfl rfl ?_
        refine z_aload_n (n := 39) dX7_readPart_38 rfl 0 rfl rfl ?_
        refine z_getRS (n := 42) dX7_readPart_39 rfl zok6 fX7_25_6 rfl hM.1 (Or.inl (by first | decide | omega)) (mF_0 hM) ?_
        obtain ⟨x_8, c_7, hF⟩ := zb1_some hF
        refine z_cV (n := 45) (st := []) (C_X7_which htr hM c_7) dX7_readPart_42 rfl (lw_V q1961 q1963 qs64 q131 q1964) hcee_X7_which rfl (by first | decide | omega) hM.1 rfl rfl rfl (by first | exact Nat.le_of_ble_eq_true rfl | omega) (Nat.le_refl _) (Nat.le_refl _) ?_
        refine z_istore_nE (n := 46) (lv' := [(2, .int x_8), (0, .ref 1860), (1, .int a0)]) dX7_readPart_45 rfl rfl rfl (by first | decide | omega) rfl ?_
        refine z_iload_n (n := 47) dX7_readPart_46 rfl 0 rfl rfl ?_
        refine z_iconst (n := 48) (v := (-1)) dX7_readPart_47 rfl (by first | decide | omega) ?_
        obtain ⟨k_10, e_11, hF⟩ := zlet_ob hF
        have H_12 : ∀ (I_9 : zId), k_10 I_9 = some r → zW l G MX7_readPart (fb + 6) (lb + 130) 0 0 56 [(0, .ref 1860), (2, .int x_8)] [] K F I_9 L (zQe (.inl none) K F r L) := by
          intro I_9 hF
          subst e_11
          dsimp only at hF
          refine z_aload_n (n := 57) dX7_readPart_56 rfl 0 rfl rfl ?_
          refine z_iconst (n := 58) (v := (-1)) dX7_readPart_57 rfl (by first | decide | omega) ?_
          refine z_iload_n (n := 59) dX7_readPart_58 rfl 1 rfl rfl ?_
          refine z_isub (n := 60) dX7_readPart_59 rfl ?_
          obtain ⟨I_14, c_13, hF⟩ := zb1_some hF
          refine z_cV (n := 63) (st := []) (C_X7_lay htr hM c_13) dX7_readPart_60 rfl (lw_V q1957 q1959 qs63 q131 q1960) hcee_X7_lay rfl (by first | decide | omega) hM.1 rfl rfl rfl (by first | exact Nat.le_of_ble_eq_true rfl | omega) (Nat.le_refl _) (Nat.le_refl _) ?_
          refine z_aload_n (n := 64) dX7_readPart_63 rfl 0 rfl rfl ?_
          refine z_getI (n := 67) dX7_readPart_64 rfl zok6 fX7_199_6 rfl hM.1 (Or.inl (by first | decide | omega)) ?_
          refine z_if_ne (n := 70) (t := 74) dX7_readPart_67 rfl (by first | decide | omega) (fun hc => ?_) (fun hc => ?_)
          · replace hF := (if_pos hc).symm.trans hF
            have hF := Option.some.inj hF; subst hF
            exact z_vret dX7_readPart_74 rfl ⟨rfl, rfl, rfl, rfl, rfl⟩
          · replace hF := (if_neg hc).symm.trans hF
            refine z_aload_n (n := 71) dX7_readPart_70 rfl 0 rfl rfl ?_
            obtain ⟨I_16, c_15, hF⟩ := zb1_some hF
            refine z_cV (n := 74) (st := []) (C_X7_stepOn htr hM c_15) dX7_readPart_71 rfl (lw_V q1883 q1885 qs49 q131 q1886) hcee_X7_stepOn rfl (by first | decide | omega) hM.1 rfl rfl rfl (by first | exact Nat.le_of_ble_eq_true rfl | omega) (Nat.le_refl _) (Nat.le_refl _) ?_
            have hF := Option.some.inj hF; subst hF
            exact z_vret dX7_readPart_74 rfl ⟨rfl, rfl, rfl, rfl, rfl⟩
        clear e_11
        refine z_icmp_ne (n := 51) (t := 56) dX7_readPart_48 rfl (by first | decide | omega) (fun hc => ?_) (fun hc => ?_)
        · replace hF := (if_pos hc).symm.trans hF
          refine z_sub [1, 0] rfl ?_
          exact H_12 I hF
        · replace hF := (if_neg hc).symm.trans hF
          refine z_aload_n (n := 52) dX7_readPart_51 rfl 1 rfl rfl ?_
          refine z_iconst (n := 53) (v := 3) dX7_readPart_52 rfl (by first | decide | omega) ?_
          obtain ⟨I_18, c_17, hF⟩ := zb1_some hF
          refine z_cV (n := 56) (st := []) (C_X7_wrong htr hM c_17) dX7_readPart_53 rfl (lw_V q1916 q1918 qs53 q131 q1919) hcee_X7_wrong rfl (by first | decide | omega) hM.1 rfl rfl rfl (by first | exact Nat.le_of_ble_eq_true rfl | omega) (Nat.le_refl _) (Nat.le_refl _) ?_
          refine z_sub [1, 0] rfl ?_
          exact H_12 I_18 hF
    · replace hF := (if_neg hc).symm.trans hF
      refine z_aload_n (n := 17) dX7_readPart_16 rfl 0 rfl rfl ?_
      refine z_aload_n (n := 18) dX7_readPart_17 rfl 0 rfl rfl ?_
      refine z_iconst (n := 19) (v := 0) dX7_readPart_18 rfl (by first | decide | omega) ?_
      refine z_sipush (n := 22) (v := 9999) dX7_readPart_19 rfl (by first | decide | omega) ?_
      obtain ⟨x_20, I_21, c_19, hF⟩ := zb2_some hF
      refine z_cV (n := 25) (st := [.ref 1860]) (C_X7_readNumber htr hM c_19) dX7_readPart_22 rfl (lw_V q1920 q1922 qs54 q131 q1923) hcee_X7_readNumber rfl (by first | decide | omega) hM.1 rfl rfl rfl (by first | exact Nat.le_of_ble_eq_true rfl | omega) (Nat.le_refl _) (Nat.le_refl _) ?_
      obtain ⟨I_23, c_22, hF⟩ := zb1_some hF
      refine z_cV (n := 28) (st := []) (C_X7_lay htr hM c_22) dX7_readPart_25 rfl (lw_V q1957 q1959 qs63 q131 q1960) hcee_X7_lay rfl (by first | decide | omega) hM.1 rfl rfl rfl (by first | exact Nat.le_of_ble_eq_true rfl | omega) (Nat.le_refl _) (Nat.le_refl _) ?_
      have hF := Option.some.inj hF; subst hF
      exact z_vret dX7_readPart_28 rfl ⟨rfl, rfl, rfl, rfl, rfl⟩
  · replace hF := (if_neg hc).symm.trans hF
    have hF := Option.some.inj hF; subst hF
    exact z_vret dX7_readPart_7 rfl ⟨rfl, rfl, rfl, rfl, rfl⟩
theorem hcee_X7_readPart : zCee yX7_readPart RX7 1 := ⟨rfl, by decide +kernel, by decide +kernel, by decide +kernel⟩
abbrev MX7_readProduct : zM := (RX7, cX7_readProduct, 3, none, "readProduct", [])
noncomputable def F_X7_readProduct_L5 (K : zKd) (F : zFd) (ex_ : Int32 → zId → Option zId) (a0 : Int32) (I_3 : zId) : Option ((zId) ⊕ (zId)) := zb1 (F_X7_isMarked 42 I_3) (fun x_5 => if ¬ x_5 = 0 then zb1 (F_X7_isMarked 42 I_3) (fun x_7 => zlet (fun (w_8 : Int32) => zb1 (F_X7_stepOn I_3) (fun I_13 => zb1 (F_X7_readPart K F ex_ a0 I_13) (fun I_15 => zb1 (F_X7_lay w_8 I_15) (fun I_17 => some (.inl I_17))))) (fun k_9 => if x_7 = 0 then k_9 (-23) else k_9 (-22))) else zb1 (F_X7_isMarked 47 I_3) (fun x_19 => if x_19 = 0 then some (.inr (I_3)) else zb1 (F_X7_isMarked 42 I_3) (fun x_21 => zlet (fun (w_22 : Int32) => zb1 (F_X7_stepOn I_3) (fun I_27 => zb1 (F_X7_readPart K F ex_ a0 I_27) (fun I_29 => zb1 (F_X7_lay w_22 I_29) (fun I_31 => some (.inl I_31))))) (fun k_23 => if x_21 = 0 then k_23 (-23) else k_23 (-22)))))
noncomputable def F_X7_readProduct (K : zKd) (F : zFd) (ex_ : Int32 → zId → Option zId) (a0 : Int32) (I : zId) : Option (zId) := zb1 (F_X7_readPart K F ex_ a0 I) (fun I_2 => zb1 (zloop (fun s : zId => F_X7_readProduct_L5 K F ex_ a0 s) I_2) (fun I_32 => some I_32))
set_option maxHeartbeats 1000000 in
theorem W_X7_readProduct_L5 {l : Launch} {G : zGt} (htr : l.stackTraces = false) {K : zKd} {F : zFd} {L : zLd} {Q : zQt} {ex_ : Int32 → zId → Option zId} {a0 : Int32} {I_3 : zId} {fb lb : Nat} (hM : zMLay K F) (hex : ∀ (a : Int32) (I r : zId), ex_ a I = some r → zMet l G yX7_readExpression (ws_ yX7_readExpression cX7_readExpression 3 none) fb lb 0 0 [.ref 1860, .int a] K F I L (zQe (.inl none) K F r L)) {r : (zId) ⊕ (zId)} (hF : F_X7_readProduct_L5 K F ex_ a0 I_3 = some r) (kl : ∀ (z0 : zId), r = .inl z0 → zW l G MX7_readProduct (fb + 7) (lb + 152) 0 0 5 [(0, .ref 1860), (1, .int a0)] [] K F z0 L Q) (kx : ∀ (y0 : zId), r = .inr y0 → zW l G MX7_readProduct (fb + 7) (lb + 152) 0 0 57 [] [] K F y0 L Q)  : zW l G MX7_readProduct (fb + 7) (lb + 152) 0 0 5 [(0, .ref 1860), (1, .int a0)] [] K F I_3 L Q := by
  unfold F_X7_readProduct_L5 at hF
  refine z_aload_n (n := 6) dX7_readProduct_5 rfl 0 rfl rfl ?_
  refine z_bipush (n := 8) (v := 42) dX7_readProduct_6 rfl (by first | decide | omega) ?_
  obtain ⟨x_5, c_4, hF⟩ := zb1_some hF
  refine z_cV (n := 11) (st := []) (C_X7_isMarked htr hM c_4) dX7_readProduct_8 rfl (lw_V q1932 q1934 qs57 q131 q1935) hcee_X7_isMarked rfl (by first | decide | omega) hM.1 rfl rfl rfl (by first | exact Nat.le_of_ble_eq_true rfl | omega) (Nat.le_refl _) (Nat.le_refl _) ?_
  refine z_if_ne (n := 14) (t := 23) dX7_readProduct_11 rfl (by first | decide | omega) (fun hc => ?_) (fun hc => ?_)
  · replace hF := (if_pos hc).symm.trans hF
    refine z_aload_n (n := 24) dX7_readProduct_23 rfl 0 rfl rfl ?_
    refine z_bipush (n := 26) (v := 42) dX7_readProduct_24 rfl (by first | decide | omega) ?_
    obtain ⟨x_7, c_6, hF⟩ := zb1_some hF
    refine z_cV (n := 29) (st := []) (C_X7_isMarked htr hM c_6) dX7_readProduct_26 rfl (lw_V q1932 q1934 qs57 q131 q1935) hcee_X7_isMarked rfl (by first | decide | omega) hM.1 rfl rfl rfl (by first | exact Nat.le_of_ble_eq_true rfl | omega) (Nat.le_refl _) (Nat.le_refl _) ?_
    obtain ⟨k_9, e_10, hF⟩ := zlet_ob hF
    have H_11 : ∀ (w_8 : Int32), k_9 w_8 = some r → zW l G MX7_readProduct (fb + 7) (lb + 152) 0 0 39 [(0, .ref 1860), (1, .int a0)] [.int w_8] K F I_3 L Q := by
      intro w_8 hF
      subst e_10
      dsimp only at hF
      refine z_istore_nE (n := 40) (lv' := [(2, .int w_8), (0, .ref 1860), (1, .int a0)]) dX7_readProduct_39 rfl rfl rfl (by first | decide | omega) rfl ?_
      refine z_aload_n (n := 41) dX7_readProduct_40 rfl 1 rfl rfl ?_
      obtain ⟨I_13, c_12, hF⟩ := zb1_some hF
      refine z_cV (n := 44) (st := []) (C_X7_stepOn htr hM c_12) dX7_readProduct_41 rfl (lw_V q1883 q1885 qs49 q131 q1886) hcee_X7_stepOn rfl (by first | decide | omega) hM.1 rfl rfl rfl (by first | exact Nat.le_of_ble_eq_true rfl | omega) (Nat.le_refl _) (Nat.le_refl _) ?_
      refine z_aload_n (n := 45) dX7_readProduct_44 rfl 1 rfl rfl ?_
      refine z_iload_n (n := 46) dX7_readProduct_45 rfl 2 rfl rfl ?_
      obtain ⟨I_15, c_14, hF⟩ := zb1_some hF
      refine z_cV (n := 49) (st := []) (C_X7_readPart htr hM hex c_14) dX7_readProduct_46 rfl (lw_V q1953 q1955 qs62 q131 q1956) hcee_X7_readPart rfl (by first | decide | omega) hM.1 rfl rfl rfl (by first | exact Nat.le_of_ble_eq_true rfl | omega) (Nat.le_refl _) (Nat.le_refl _) ?_
      refine z_aload_n (n := 50) dX7_readProduct_49 rfl 1 rfl rfl ?_
      refine z_iload_n (n := 51) dX7_readProduct_50 rfl 0 rfl rfl ?_
      obtain ⟨I_17, c_16, hF⟩ := zb1_some hF
      refine z_cV (n := 54) (st := []) (C_X7_lay htr hM c_16) dX7_readProduct_51 rfl (lw_V q1957 q1959 qs63 q131 q1960) hcee_X7_lay rfl (by first | decide | omega) hM.1 rfl rfl rfl (by first | exact Nat.le_of_ble_eq_true rfl | omega) (Nat.le_refl _) (Nat.le_refl _) ?_
      refine z_goto (t := 5) dX7_readProduct_54 (by first | decide | omega) ?_
      refine z_sub [1, 2] rfl ?_
      have hF := Option.some.inj hF; subst hF
      exact kl I_17 rfl
    clear e_10
    refine z_if_eq (n := 32) (t := 37) dX7_readProduct_29 rfl (by first | decide | omega) (fun hc => ?_) (fun hc => ?_)
    · replace hF := (if_pos hc).symm.trans hF
      refine z_bipush (n := 39) (v := (-23)) dX7_readProduct_37 rfl (by first | decide | omega) ?_
      exact H_11 (-23) hF
    · replace hF := (if_neg hc).symm.trans hF
      refine z_bipush (n := 34) (v := (-22)) dX7_readProduct_32 rfl (by first | decide | omega) ?_
      refine z_goto (t := 39) dX7_readProduct_34 (by first | decide | omega) ?_
      exact H_11 (-22) hF
  · replace hF := (if_neg hc).symm.trans hF
    refine z_aload_n (n := 15) dX7_readProduct_14 rfl 0 rfl rfl ?_
    refine z_bipush (n := 17) (v := 47) dX7_readProduct_15 rfl (by first | decide | omega) ?_
    obtain ⟨x_19, c_18, hF⟩ := zb1_some hF
    refine z_cV (n := 20) (st := []) (C_X7_isMarked htr hM c_18) dX7_readProduct_17 rfl (lw_V q1932 q1934 qs57 q131 q1935) hcee_X7_isMarked rfl (by first | decide | omega) hM.1 rfl rfl rfl (by first | exact Nat.le_of_ble_eq_true rfl | omega) (Nat.le_refl _) (Nat.le_refl _) ?_
    refine z_if_eq (n := 23) (t := 57) dX7_readProduct_20 rfl (by first | decide | omega) (fun hc => ?_) (fun hc => ?_)
    · replace hF := (if_pos hc).symm.trans hF
      refine z_sub [] rfl ?_
      have hF := Option.some.inj hF; subst hF
      exact kx I_3 rfl
    · replace hF := (if_neg hc).symm.trans hF
      refine z_aload_n (n := 24) dX7_readProduct_23 rfl 0 rfl rfl ?_
      refine z_bipush (n := 26) (v := 42) dX7_readProduct_24 rfl (by first | decide | omega) ?_
      obtain ⟨x_21, c_20, hF⟩ := zb1_some hF
      refine z_cV (n := 29) (st := []) (C_X7_isMarked htr hM c_20) dX7_readProduct_26 rfl (lw_V q1932 q1934 qs57 q131 q1935) hcee_X7_isMarked rfl (by first | decide | omega) hM.1 rfl rfl rfl (by first | exact Nat.le_of_ble_eq_true rfl | omega) (Nat.le_refl _) (Nat.le_refl _) ?_
      obtain ⟨k_23, e_24, hF⟩ := zlet_ob hF
      have H_25 : ∀ (w_22 : Int32), k_23 w_22 = some r → zW l G MX7_readProduct (fb + 7) (lb + 152) 0 0 39 [(0, .ref 1860), (1, .int a0)] [.int w_22] K F I_3 L Q := by
        intro w_22 hF
        subst e_24
        dsimp only at hF
        refine z_istore_nE (n := 40) (lv' := [(2, .int w_22), (0, .ref 1860), (1, .int a0)]) dX7_readProduct_39 rfl rfl rfl (by first | decide | omega) rfl ?_
        refine z_aload_n (n := 41) dX7_readProduct_40 rfl 1 rfl rfl ?_
        obtain ⟨I_27, c_26, hF⟩ := zb1_some hF
        refine z_cV (n := 44) (st := []) (C_X7_stepOn htr hM c_26) dX7_readProduct_41 rfl (lw_V q1883 q1885 qs49 q131 q1886) hcee_X7_stepOn rfl (by first | decide | omega) hM.1 rfl rfl rfl (by first | exact Nat.le_of_ble_eq_true rfl | omega) (Nat.le_refl _) (Nat.le_refl _) ?_
        refine z_aload_n (n := 45) dX7_readProduct_44 rfl 1 rfl rfl ?_
        refine z_iload_n (n := 46) dX7_readProduct_45 rfl 2 rfl rfl ?_
        obtain ⟨I_29, c_28, hF⟩ := zb1_some hF
        refine z_cV (n := 49) (st := []) (C_X7_readPart htr hM hex c_28) dX7_readProduct_46 rfl (lw_V q1953 q1955 qs62 q131 q1956) hcee_X7_readPart rfl (by first | decide | omega) hM.1 rfl rfl rfl (by first | exact Nat.le_of_ble_eq_true rfl | omega) (Nat.le_refl _) (Nat.le_refl _) ?_
        refine z_aload_n (n := 50) dX7_readProduct_49 rfl 1 rfl rfl ?_
        refine z_iload_n (n := 51) dX7_readProduct_50 rfl 0 rfl rfl ?_
        obtain ⟨I_31, c_30, hF⟩ := zb1_some hF
        refine z_cV (n := 54) (st := []) (C_X7_lay htr hM c_30) dX7_readProduct_51 rfl (lw_V q1957 q1959 qs63 q131 q1960) hcee_X7_lay rfl (by first | decide | omega) hM.1 rfl rfl rfl (by first | exact Nat.le_of_ble_eq_true rfl | omega) (Nat.le_refl _) (Nat.le_refl _) ?_
        refine z_goto (t := 5) dX7_readProduct_54 (by first | decide | omega) ?_
        refine z_sub [1, 2] rfl ?_
        have hF := Option.some.inj hF; subst hF
        exact kl I_31 rfl
      clear e_24
      refine z_if_eq (n := 32) (t := 37) dX7_readProduct_29 rfl (by first | decide | omega) (fun hc => ?_) (fun hc => ?_)
      · replace hF := (if_pos hc).symm.trans hF
        refine z_bipush (n := 39) (v := (-23)) dX7_readProduct_37 rfl (by first | decide | omega) ?_
        exact H_25 (-23) hF
      · replace hF := (if_neg hc).symm.trans hF
        refine z_bipush (n := 34) (v := (-22)) dX7_readProduct_32 rfl (by first | decide | omega) ?_
        refine z_goto (t := 39) dX7_readProduct_34 (by first | decide | omega) ?_
        exact H_25 (-22) hF
set_option maxHeartbeats 1000000 in
theorem C_X7_readProduct {l : Launch} {G : zGt} (htr : l.stackTraces = false) {K : zKd} {F : zFd} {L : zLd} {ex_ : Int32 → zId → Option zId} {a0 : Int32} {fb lb : Nat} (hM : zMLay K F) (hex : ∀ (a : Int32) (I r : zId), ex_ a I = some r → zMet l G yX7_readExpression (ws_ yX7_readExpression cX7_readExpression 3 none) fb lb 0 0 [.ref 1860, .int a] K F I L (zQe (.inl none) K F r L)) {I : zId} {r : zId} (hF : F_X7_readProduct K F ex_ a0 I = some r) : zMet l G yX7_readProduct (ws_ yX7_readProduct cX7_readProduct 3 none) (fb + 7) (lb + 152) 0 0 [.ref 1860, .int a0] K F I L (zQe (.inl none) K F r L) := by
  refine zMet.of (by decide +kernel) htr (by first | exact Nat.le_of_ble_eq_true rfl | omega) ?_
  change zW l G MX7_readProduct (fb + 7) (lb + 152) 0 0 0 [(0, .ref 1860), (1, .int a0)] [] K F I L (zQe (.inl none) K F r L)
  unfold F_X7_readProduct at hF
  refine z_aload_n (n := 1) dX7_readProduct_0 rfl 0 rfl rfl ?_
  refine z_iload_n (n := 2) dX7_readProduct_1 rfl 1 rfl rfl ?_
  obtain ⟨I_2, c_1, hF⟩ := zb1_some hF
  refine z_cV (n := 5) (st := []) (C_X7_readPart htr hM hex c_1) dX7_readProduct_2 rfl (lw_V q1953 q1955 qs62 q131 q1956) hcee_X7_readPart rfl (by first | decide | omega) hM.1 rfl rfl rfl (by first | exact Nat.le_of_ble_eq_true rfl | omega) (Nat.le_refl _) (Nat.le_refl _) ?_
  obtain ⟨t_34, e_33, hF⟩ := zb1_some hF
  obtain ⟨I_32, rfl⟩ : ∃ z, z = t_34 := ⟨_, rfl⟩
  have H_35 : zW l G MX7_readProduct (fb + 7) (lb + 152) 0 0 57 [] [] K F I_32 L (zQe (.inl none) K F r L) := by
    have hF := Option.some.inj hF; subst hF
    exact z_vret dX7_readProduct_57 rfl ⟨rfl, rfl, rfl, rfl, rfl⟩
  refine zloop_ind (P := fun s : zId => zW l G MX7_readProduct (fb + 7) (lb + 152) 0 0 5 [(0, .ref 1860), (1, .int a0)] [] K F s L (zQe (.inl none) K F r L)) (fun s r hb kl kr => ?_) e_33
  exact W_X7_readProduct_L5 (ex_ := ex_) (a0 := a0) htr hM hex hb (fun z0 e => kl _ e) (fun y0 e => by cases kr _ e; exact H_35)
theorem hcee_X7_readProduct : zCee yX7_readProduct RX7 1 := ⟨rfl, by decide +kernel, by decide +kernel, by decide +kernel⟩
abbrev MX7_readSum : zM := (RX7, cX7_readSum, 3, none, "readSum", [])
noncomputable def F_X7_readSum_L5 (K : zKd) (F : zFd) (ex_ : Int32 → zId → Option zId) (a0 : Int32) (I_3 : zId) : Option ((zId) ⊕ (zId)) := zb1 (F_X7_isMarked 43 I_3) (fun x_5 => if ¬ x_5 = 0 then zb1 (F_X7_isMarked 43 I_3) (fun x_7 => zlet (fun (w_8 : Int32) => zb1 (F_X7_stepOn I_3) (fun I_13 => zb1 (F_X7_readProduct K F ex_ a0 I_13) (fun I_15 => zb1 (F_X7_lay w_8 I_15) (fun I_17 => some (.inl I_17))))) (fun k_9 => if x_7 = 0 then k_9 (-21) else k_9 (-20))) else zb1 (F_X7_isMarked 45 I_3) (fun x_19 => if x_19 = 0 then some (.inr (I_3)) else zb1 (F_X7_isMarked 43 I_3) (fun x_21 => zlet (fun (w_22 : Int32) => zb1 (F_X7_stepOn I_3) (fun I_27 => zb1 (F_X7_readProduct K F ex_ a0 I_27) (fun I_29 => zb1 (F_X7_lay w_22 I_29) (fun I_31 => some (.inl I_31))))) (fun k_23 => if x_21 = 0 then k_23 (-21) else k_23 (-20)))))
noncomputable def F_X7_readSum (K : zKd) (F : zFd) (ex_ : Int32 → zId → Option zId) (a0 : Int32) (I : zId) : Option (zId) := zb1 (F_X7_readProduct K F ex_ a0 I) (fun I_2 => zb1 (zloop (fun s : zId => F_X7_readSum_L5 K F ex_ a0 s) I_2) (fun I_32 => some I_32))
set_option maxHeartbeats 1000000 in
theorem W_X7_readSum_L5 {l : Launch} {G : zGt} (htr : l.stackTraces = false) {K : zKd} {F : zFd} {L : zLd} {Q : zQt} {ex_ : Int32 → zId → Option zId} {a0 : Int32} {I_3 : zId} {fb lb : Nat} (hM : zMLay K F) (hex : ∀ (a : Int32) (I r : zId), ex_ a I = some r → zMet l G yX7_readExpression (ws_ yX7_readExpression cX7_readExpression 3 none) fb lb 0 0 [.ref 1860, .int a] K F I L (zQe (.inl none) K F r L)) {r : (zId) ⊕ (zId)} (hF : F_X7_readSum_L5 K F ex_ a0 I_3 = some r) (kl : ∀ (z0 : zId), r = .inl z0 → zW l G MX7_readSum (fb + 8) (lb + 174) 0 0 5 [(0, .ref 1860), (1, .int a0)] [] K F z0 L Q) (kx : ∀ (y0 : zId), r = .inr y0 → zW l G MX7_readSum (fb + 8) (lb + 174) 0 0 57 [] [] K F y0 L Q)  : zW l G MX7_readSum (fb + 8) (lb + 174) 0 0 5 [(0, .ref 1860), (1, .int a0)] [] K F I_3 L Q := by
  unfold F_X7_readSum_L5 at hF
  refine z_aload_n (n := 6) dX7_readSum_5 rfl 0 rfl rfl ?_
  refine z_bipush (n := 8) (v := 43) dX7_readSum_6 rfl (by first | decide | omega) ?_
  obtain ⟨x_5, c_4, hF⟩ := zb1_some hF
  refine z_cV (n := 11) (st := []) (C_X7_isMarked htr hM c_4) dX7_readSum_8 rfl (lw_V q1932 q1934 qs57 q131 q1935) hcee_X7_isMarked rfl (by first | decide | omega) hM.1 rfl rfl rfl (by first | exact Nat.le_of_ble_eq_true rfl | omega) (Nat.le_refl _) (Nat.le_refl _) ?_
  refine z_if_ne (n := 14) (t := 23) dX7_readSum_11 rfl (by first | decide | omega) (fun hc => ?_) (fun hc => ?_)
  · replace hF := (if_pos hc).symm.trans hF
    refine z_aload_n (n := 24) dX7_readSum_23 rfl 0 rfl rfl ?_
    refine z_bipush (n := 26) (v := 43) dX7_readSum_24 rfl (by first | decide | omega) ?_
    obtain ⟨x_7, c_6, hF⟩ := zb1_some hF
    refine z_cV (n := 29) (st := []) (C_X7_isMarked htr hM c_6) dX7_readSum_26 rfl (lw_V q1932 q1934 qs57 q131 q1935) hcee_X7_isMarked rfl (by first | decide | omega) hM.1 rfl rfl rfl (by first | exact Nat.le_of_ble_eq_true rfl | omega) (Nat.le_refl _) (Nat.le_refl _) ?_
    obtain ⟨k_9, e_10, hF⟩ := zlet_ob hF
    have H_11 : ∀ (w_8 : Int32), k_9 w_8 = some r → zW l G MX7_readSum (fb + 8) (lb + 174) 0 0 39 [(0, .ref 1860), (1, .int a0)] [.int w_8] K F I_3 L Q := by
      intro w_8 hF
      subst e_10
      dsimp only at hF
      refine z_istore_nE (n := 40) (lv' := [(2, .int w_8), (0, .ref 1860), (1, .int a0)]) dX7_readSum_39 rfl rfl rfl (by first | decide | omega) rfl ?_
      refine z_aload_n (n := 41) dX7_readSum_40 rfl 1 rfl rfl ?_
      obtain ⟨I_13, c_12, hF⟩ := zb1_some hF
      refine z_cV (n := 44) (st := []) (C_X7_stepOn htr hM c_12) dX7_readSum_41 rfl (lw_V q1883 q1885 qs49 q131 q1886) hcee_X7_stepOn rfl (by first | decide | omega) hM.1 rfl rfl rfl (by first | exact Nat.le_of_ble_eq_true rfl | omega) (Nat.le_refl _) (Nat.le_refl _) ?_
      refine z_aload_n (n := 45) dX7_readSum_44 rfl 1 rfl rfl ?_
      refine z_iload_n (n := 46) dX7_readSum_45 rfl 2 rfl rfl ?_
      obtain ⟨I_15, c_14, hF⟩ := zb1_some hF
      refine z_cV (n := 49) (st := []) (C_X7_readProduct htr hM hex c_14) dX7_readSum_46 rfl (lw_V q1949 q1951 qs61 q131 q1952) hcee_X7_readProduct rfl (by first | decide | omega) hM.1 rfl rfl rfl (by first | exact Nat.le_of_ble_eq_true rfl | omega) (Nat.le_refl _) (Nat.le_refl _) ?_
      refine z_aload_n (n := 50) dX7_readSum_49 rfl 1 rfl rfl ?_
      refine z_iload_n (n := 51) dX7_readSum_50 rfl 0 rfl rfl ?_
      obtain ⟨I_17, c_16, hF⟩ := zb1_some hF
      refine z_cV (n := 54) (st := []) (C_X7_lay htr hM c_16) dX7_readSum_51 rfl (lw_V q1957 q1959 qs63 q131 q1960) hcee_X7_lay rfl (by first | decide | omega) hM.1 rfl rfl rfl (by first | exact Nat.le_of_ble_eq_true rfl | omega) (Nat.le_refl _) (Nat.le_refl _) ?_
      refine z_goto (t := 5) dX7_readSum_54 (by first | decide | omega) ?_
      refine z_sub [1, 2] rfl ?_
      have hF := Option.some.inj hF; subst hF
      exact kl I_17 rfl
    clear e_10
    refine z_if_eq (n := 32) (t := 37) dX7_readSum_29 rfl (by first | decide | omega) (fun hc => ?_) (fun hc => ?_)
    · replace hF := (if_pos hc).symm.trans hF
      refine z_bipush (n := 39) (v := (-21)) dX7_readSum_37 rfl (by first | decide | omega) ?_
      exact H_11 (-21) hF
    · replace hF := (if_neg hc).symm.trans hF
      refine z_bipush (n := 34) (v := (-20)) dX7_readSum_32 rfl (by first | decide | omega) ?_
      refine z_goto (t := 39) dX7_readSum_34 (by first | decide | omega) ?_
      exact H_11 (-20) hF
  · replace hF := (if_neg hc).symm.trans hF
    refine z_aload_n (n := 15) dX7_readSum_14 rfl 0 rfl rfl ?_
    refine z_bipush (n := 17) (v := 45) dX7_readSum_15 rfl (by first | decide | omega) ?_
    obtain ⟨x_19, c_18, hF⟩ := zb1_some hF
    refine z_cV (n := 20) (st := []) (C_X7_isMarked htr hM c_18) dX7_readSum_17 rfl (lw_V q1932 q1934 qs57 q131 q1935) hcee_X7_isMarked rfl (by first | decide | omega) hM.1 rfl rfl rfl (by first | exact Nat.le_of_ble_eq_true rfl | omega) (Nat.le_refl _) (Nat.le_refl _) ?_
    refine z_if_eq (n := 23) (t := 57) dX7_readSum_20 rfl (by first | decide | omega) (fun hc => ?_) (fun hc => ?_)
    · replace hF := (if_pos hc).symm.trans hF
      refine z_sub [] rfl ?_
      have hF := Option.some.inj hF; subst hF
      exact kx I_3 rfl
    · replace hF := (if_neg hc).symm.trans hF
      refine z_aload_n (n := 24) dX7_readSum_23 rfl 0 rfl rfl ?_
      refine z_bipush (n := 26) (v := 43) dX7_readSum_24 rfl (by first | decide | omega) ?_
      obtain ⟨x_21, c_20, hF⟩ := zb1_some hF
      refine z_cV (n := 29) (st := []) (C_X7_isMarked htr hM c_20) dX7_readSum_26 rfl (lw_V q1932 q1934 qs57 q131 q1935) hcee_X7_isMarked rfl (by first | decide | omega) hM.1 rfl rfl rfl (by first | exact Nat.le_of_ble_eq_true rfl | omega) (Nat.le_refl _) (Nat.le_refl _) ?_
      obtain ⟨k_23, e_24, hF⟩ := zlet_ob hF
      have H_25 : ∀ (w_22 : Int32), k_23 w_22 = some r → zW l G MX7_readSum (fb + 8) (lb + 174) 0 0 39 [(0, .ref 1860), (1, .int a0)] [.int w_22] K F I_3 L Q := by
        intro w_22 hF
        subst e_24
        dsimp only at hF
        refine z_istore_nE (n := 40) (lv' := [(2, .int w_22), (0, .ref 1860), (1, .int a0)]) dX7_readSum_39 rfl rfl rfl (by first | decide | omega) rfl ?_
        refine z_aload_n (n := 41) dX7_readSum_40 rfl 1 rfl rfl ?_
        obtain ⟨I_27, c_26, hF⟩ := zb1_some hF
        refine z_cV (n := 44) (st := []) (C_X7_stepOn htr hM c_26) dX7_readSum_41 rfl (lw_V q1883 q1885 qs49 q131 q1886) hcee_X7_stepOn rfl (by first | decide | omega) hM.1 rfl rfl rfl (by first | exact Nat.le_of_ble_eq_true rfl | omega) (Nat.le_refl _) (Nat.le_refl _) ?_
        refine z_aload_n (n := 45) dX7_readSum_44 rfl 1 rfl rfl ?_
        refine z_iload_n (n := 46) dX7_readSum_45 rfl 2 rfl rfl ?_
        obtain ⟨I_29, c_28, hF⟩ := zb1_some hF
        refine z_cV (n := 49) (st := []) (C_X7_readProduct htr hM hex c_28) dX7_readSum_46 rfl (lw_V q1949 q1951 qs61 q131 q1952) hcee_X7_readProduct rfl (by first | decide | omega) hM.1 rfl rfl rfl (by first | exact Nat.le_of_ble_eq_true rfl | omega) (Nat.le_refl _) (Nat.le_refl _) ?_
        refine z_aload_n (n := 50) dX7_readSum_49 rfl 1 rfl rfl ?_
        refine z_iload_n (n := 51) dX7_readSum_50 rfl 0 rfl rfl ?_
        obtain ⟨I_31, c_30, hF⟩ := zb1_some hF
        refine z_cV (n := 54) (st := []) (C_X7_lay htr hM c_30) dX7_readSum_51 rfl (lw_V q1957 q1959 qs63 q131 q1960) hcee_X7_lay rfl (by first | decide | omega) hM.1 rfl rfl rfl (by first | exact Nat.le_of_ble_eq_true rfl | omega) (Nat.le_refl _) (Nat.le_refl _) ?_
        refine z_goto (t := 5) dX7_readSum_54 (by first | decide | omega) ?_
        refine z_sub [1, 2] rfl ?_
        have hF := Option.some.inj hF; subst hF
        exact kl I_31 rfl
      clear e_24
      refine z_if_eq (n := 32) (t := 37) dX7_readSum_29 rfl (by first | decide | omega) (fun hc => ?_) (fun hc => ?_)
      · replace hF := (if_pos hc).symm.trans hF
        refine z_bipush (n := 39) (v := (-21)) dX7_readSum_37 rfl (by first | decide | omega) ?_
        exact H_25 (-21) hF
      · replace hF := (if_neg hc).symm.trans hF
        refine z_bipush (n := 34) (v := (-20)) dX7_readSum_32 rfl (by first | decide | omega) ?_
        refine z_goto (t := 39) dX7_readSum_34 (by first | decide | omega) ?_
        exact H_25 (-20) hF
set_option maxHeartbeats 1000000 in
theorem C_X7_readSum {l : Launch} {G : zGt} (htr : l.stackTraces = false) {K : zKd} {F : zFd} {L : zLd} {ex_ : Int32 → zId → Option zId} {a0 : Int32} {fb lb : Nat} (hM : zMLay K F) (hex : ∀ (a : Int32) (I r : zId), ex_ a I = some r → zMet l G yX7_readExpression (ws_ yX7_readExpression cX7_readExpression 3 none) fb lb 0 0 [.ref 1860, .int a] K F I L (zQe (.inl none) K F r L)) {I : zId} {r : zId} (hF : F_X7_readSum K F ex_ a0 I = some r) : zMet l G yX7_readSum (ws_ yX7_readSum cX7_readSum 3 none) (fb + 8) (lb + 174) 0 0 [.ref 1860, .int a0] K F I L (zQe (.inl none) K F r L) := by
  refine zMet.of (by decide +kernel) htr (by first | exact Nat.le_of_ble_eq_true rfl | omega) ?_
  change zW l G MX7_readSum (fb + 8) (lb + 174) 0 0 0 [(0, .ref 1860), (1, .int a0)] [] K F I L (zQe (.inl none) K F r L)
  unfold F_X7_readSum at hF
  refine z_aload_n (n := 1) dX7_readSum_0 rfl 0 rfl rfl ?_
  refine z_iload_n (n := 2) dX7_readSum_1 rfl 1 rfl rfl ?_
  obtain ⟨I_2, c_1, hF⟩ := zb1_some hF
  refine z_cV (n := 5) (st := []) (C_X7_readProduct htr hM hex c_1) dX7_readSum_2 rfl (lw_V q1949 q1951 qs61 q131 q1952) hcee_X7_readProduct rfl (by first | decide | omega) hM.1 rfl rfl rfl (by first | exact Nat.le_of_ble_eq_true rfl | omega) (Nat.le_refl _) (Nat.le_refl _) ?_
  obtain ⟨t_34, e_33, hF⟩ := zb1_some hF
  obtain ⟨I_32, rfl⟩ : ∃ z, z = t_34 := ⟨_, rfl⟩
  have H_35 : zW l G MX7_readSum (fb + 8) (lb + 174) 0 0 57 [] [] K F I_32 L (zQe (.inl none) K F r L) := by
    have hF := Option.some.inj hF; subst hF
    exact z_vret dX7_readSum_57 rfl ⟨rfl, rfl, rfl, rfl, rfl⟩
  refine zloop_ind (P := fun s : zId => zW l G MX7_readSum (fb + 8) (lb + 174) 0 0 5 [(0, .ref 1860), (1, .int a0)] [] K F s L (zQe (.inl none) K F r L)) (fun s r hb kl kr => ?_) e_33
  exact W_X7_readSum_L5 (ex_ := ex_) (a0 := a0) htr hM hex hb (fun z0 e => kl _ e) (fun y0 e => by cases kr _ e; exact H_35)
theorem hcee_X7_readSum : zCee yX7_readSum RX7 1 := ⟨rfl, by decide +kernel, by decide +kernel, by decide +kernel⟩
theorem zlit_X7_255 : ((RX7, 255, "not", 100) : String × Nat × String × Nat) ∈ zLit := List.mem_of_getElem? (i := 35) rfl
abbrev MX7_readNot : zM := (RX7, cX7_readNot, 4, none, "readNot", [])
noncomputable def F_X7_readNot_L2 (K : zKd) (F : zFd) (v2_1 : Int32) (I_2 : zId) : Option ((Int32 × zId) ⊕ (Int32 × zId)) := zka K 100 15 (fun n_4 => zb1 (F_X7_is K F 100 I_2) (fun x_6 => if x_6 = 0 then some (.inr ((v2_1, I_2))) else zlet (fun (I_7 : zId) => zlet (v2_1 + 1) (fun v2_11 => if ¬ (I_7 1860 22) = 0 then some (.inl (v2_11, I_7)) else zb1 (F_X7_stepOn I_7) (fun I_14 => some (.inl (v2_11, I_14))))) (fun k_8 => if ¬ v2_1 = 6 then k_8 I_2 else zb1 (F_X7_wrong 2 I_2) (fun I_16 => k_8 I_16))))
noncomputable def F_X7_readNot_L95 (v2_17 : Int32) (v3_27 : Int32) (I_28 : zId) : Option ((Int32 × zId) ⊕ (zId)) := if v2_17 ≤ v3_27 then some (.inr (I_28)) else zb1 (F_X7_lay (-28) I_28) (fun I_30 => zlet (v3_27 + 1) (fun v3_31 => some (.inl (v3_31, I_30))))
noncomputable def F_X7_readNot (K : zKd) (F : zFd) (ex_ : Int32 → zId → Option zId) (a0 : Int32) (I : zId) : Option (zId) := zb1 (zloop (fun s : Int32 × zId => F_X7_readNot_L2 K F s.1 s.2) (0, I)) (zn2 (fun v2_17 I_18 => zb1 (F_X7_readSum K F ex_ a0 I_18) (fun I_20 => zb1 (F_X7_isMarked 60 I_20) (fun x_22 => zlet (fun (I_23 : zId) => zb1 (zloop (fun s : Int32 × zId => F_X7_readNot_L95 v2_17 s.1 s.2) (0, I_23)) (fun I_33 => some I_33)) (fun k_24 => if ¬ x_22 = 0 then zb1 (F_X7_isMarked 60 I_20) (fun x_38 => zlet (fun (w_39 : Int32) => zb1 (F_X7_stepOn I_20) (fun I_44 => zb1 (F_X7_readSum K F ex_ a0 I_44) (fun I_46 => zb1 (F_X7_lay w_39 I_46) (fun I_48 => k_24 I_48)))) (fun k_40 => if x_38 = 0 then k_40 (-25) else k_40 (-24))) else zb1 (F_X7_isMarked 61 I_20) (fun x_50 => if x_50 = 0 then k_24 I_20 else zb1 (F_X7_isMarked 60 I_20) (fun x_52 => zlet (fun (w_53 : Int32) => zb1 (F_X7_stepOn I_20) (fun I_58 => zb1 (F_X7_readSum K F ex_ a0 I_58) (fun I_60 => zb1 (F_X7_lay w_53 I_60) (fun I_62 => k_24 I_62)))) (fun k_54 => if x_52 = 0 then k_54 (-25) else k_54 (-24)))))))))
set_option maxHeartbeats 1000000 in
theorem W_X7_readNot_L2 {l : Launch} {G : zGt} (htr : l.stackTraces = false) {K : zKd} {F : zFd} {L : zLd} {Q : zQt} {a0 : Int32} {ex_ : Int32 → zId → Option zId} {v2_1 : Int32} {I_2 : zId} {fb lb : Nat} (hM : zMLay K F) (hex : ∀ (a : Int32) (I r : zId), ex_ a I = some r → zMet l G yX7_readExpression (ws_ yX7_readExpression cX7_readExpression 3 none) fb lb 0 0 [.ref 1860, .int a] K F I L (zQe (.inl none) K F r L)) {r : (Int32 × zId) ⊕ (Int32 × zId)} (hF : F_X7_readNot_L2 K F v2_1 I_2 = some r) (kl : ∀ (z0 : Int32) (z1 : zId), r = .inl (z0, z1) → zW l G MX7_readNot (fb + 9) (lb + 196) 0 0 2 [(0, .ref 1860), (1, .int a0), (2, .int z0)] [] K F z1 L Q) (kx : ∀ (y0 : Int32) (y1 : zId), r = .inr (y0, y1) → zW l G MX7_readNot (fb + 9) (lb + 196) 0 0 39 [(0, .ref 1860), (1, .int a0), (2, .int y0)] [] K F y1 L Q)  : zW l G MX7_readNot (fb + 9) (lb + 196) 0 0 2 [(0, .ref 1860), (1, .int a0), (2, .int v2_1)] [] K F I_2 L Q := by
  unfold F_X7_readNot_L2 at hF
  refine z_aload_n (n := 3) dX7_readNot_2 rfl 0 rfl rfl ?_
  obtain ⟨n_4, hk_3, hF⟩ := zka_some hF
  refine z_ldcS (n := 5) (j := 100) dX7_readNot_3 rfl zlit_X7_255 (by first | decide | omega) (znn hk_3) ?_
  obtain ⟨x_6, c_5, hF⟩ := zb1_some hF
  refine z_cV (n := 8) (st := []) (C_X7_is htr hM c_5) dX7_readNot_5 rfl (lw_V q1907 q1909 qs52 q131 q1910) hcee_X7_is rfl (by first | decide | omega) hM.1 rfl rfl rfl (by first | exact Nat.le_of_ble_eq_true rfl | omega) (Nat.le_refl _) (Nat.le_refl _) ?_
  refine z_if_eq (n := 11) (t := 39) dX7_readNot_8 rfl (by first | decide | omega) (fun hc => ?_) (fun hc => ?_)
  · replace hF := (if_pos hc).symm.trans hF
    have hF := Option.some.inj hF; subst hF
    exact kx v2_1 I_2 rfl
  · replace hF := (if_neg hc).symm.trans hF
    refine z_iload_n (n := 12) dX7_readNot_11 rfl 2 rfl rfl ?_
    refine z_bipush (n := 14) (v := 6) dX7_readNot_12 rfl (by first | decide | omega) ?_
    obtain ⟨k_8, e_9, hF⟩ := zlet_ob hF
    have H_10 : ∀ (I_7 : zId), k_8 I_7 = some r → zW l G MX7_readNot (fb + 9) (lb + 196) 0 0 22 [(0, .ref 1860), (1, .int a0), (2, .int v2_1)] [] K F I_7 L Q := by
      intro I_7 hF
      subst e_9
      dsimp only at hF
      obtain ⟨v2_11, e_12, hF⟩ := zlet_ob hF
      refine z_iincE (n := 25) (w := 1) (v := v2_11) (lv' := [(2, .int v2_11), (0, .ref 1860), (1, .int a0)]) dX7_readNot_22 rfl 2 rfl (by first | decide | omega) e_12 (by first | decide | omega) rfl ?_
      refine z_aload_n (n := 26) dX7_readNot_25 rfl 1 rfl rfl ?_
      refine z_getI (n := 29) dX7_readNot_26 rfl zok6 fX7_199_6 rfl hM.1 (Or.inl (by first | decide | omega)) ?_
      refine z_if_ne (n := 32) (t := 2) dX7_readNot_29 rfl (by first | decide | omega) (fun hc => ?_) (fun hc => ?_)
      · replace hF := (if_pos hc).symm.trans hF
        refine z_sub [1, 2, 0] rfl ?_
        have hF := Option.some.inj hF; subst hF
        exact kl v2_11 I_7 rfl
      · replace hF := (if_neg hc).symm.trans hF
        refine z_aload_n (n := 33) dX7_readNot_32 rfl 1 rfl rfl ?_
        obtain ⟨I_14, c_13, hF⟩ := zb1_some hF
        refine z_cV (n := 36) (st := []) (C_X7_stepOn htr hM c_13) dX7_readNot_33 rfl (lw_V q1883 q1885 qs49 q131 q1886) hcee_X7_stepOn rfl (by first | decide | omega) hM.1 rfl rfl rfl (by first | exact Nat.le_of_ble_eq_true rfl | omega) (Nat.le_refl _) (Nat.le_refl _) ?_
        refine z_goto (t := 2) dX7_readNot_36 (by first | decide | omega) ?_
        refine z_sub [1, 2, 0] rfl ?_
        have hF := Option.some.inj hF; subst hF
        exact kl v2_11 I_14 rfl
    clear e_9
    refine z_icmp_ne (n := 17) (t := 22) dX7_readNot_14 rfl (by first | decide | omega) (fun hc => ?_) (fun hc => ?_)
    · replace hF := (if_pos hc).symm.trans hF
      exact H_10 I_2 hF
    · replace hF := (if_neg hc).symm.trans hF
      refine z_aload_n (n := 18) dX7_readNot_17 rfl 0 rfl rfl ?_
      refine z_iconst (n := 19) (v := 2) dX7_readNot_18 rfl (by first | decide | omega) ?_
      obtain ⟨I_16, c_15, hF⟩ := zb1_some hF
      refine z_cV (n := 22) (st := []) (C_X7_wrong htr hM c_15) dX7_readNot_19 rfl (lw_V q1916 q1918 qs53 q131 q1919) hcee_X7_wrong rfl (by first | decide | omega) hM.1 rfl rfl rfl (by first | exact Nat.le_of_ble_eq_true rfl | omega) (Nat.le_refl _) (Nat.le_refl _) ?_
      exact H_10 I_16 hF
set_option maxHeartbeats 1000000 in
theorem W_X7_readNot_L95 {l : Launch} {G : zGt} (htr : l.stackTraces = false) {K : zKd} {F : zFd} {L : zLd} {Q : zQt} {v2_17 : Int32} {ex_ : Int32 → zId → Option zId} {a0 : Int32} {v3_27 : Int32} {I_28 : zId} {fb lb : Nat} (hM : zMLay K F) (hex : ∀ (a : Int32) (I r : zId), ex_ a I = some r → zMet l G yX7_readExpression (ws_ yX7_readExpression cX7_readExpression 3 none) fb lb 0 0 [.ref 1860, .int a] K F I L (zQe (.inl none) K F r L)) {r : (Int32 × zId) ⊕ (zId)} (hF : F_X7_readNot_L95 v2_17 v3_27 I_28 = some r) (kl : ∀ (z0 : Int32) (z1 : zId), r = .inl (z0, z1) → zW l G MX7_readNot (fb + 9) (lb + 196) 0 0 95 [(0, .ref 1860), (2, .int v2_17), (3, .int z0)] [] K F z1 L Q) (kx : ∀ (y0 : zId), r = .inr y0 → zW l G MX7_readNot (fb + 9) (lb + 196) 0 0 112 [] [] K F y0 L Q)  : zW l G MX7_readNot (fb + 9) (lb + 196) 0 0 95 [(0, .ref 1860), (2, .int v2_17), (3, .int v3_27)] [] K F I_28 L Q := by
  unfold F_X7_readNot_L95 at hF
  refine z_iload_n (n := 96) dX7_readNot_95 rfl 2 rfl rfl ?_
  refine z_iload_n (n := 97) dX7_readNot_96 rfl 1 rfl rfl ?_
  refine z_icmp_ge (n := 100) (t := 112) dX7_readNot_97 rfl (by first | decide | omega) (fun hc => ?_) (fun hc => ?_)
  · replace hF := (if_pos hc).symm.trans hF
    refine z_sub [] rfl ?_
    have hF := Option.some.inj hF; subst hF
    exact kx I_28 rfl
  · replace hF := (if_neg hc).symm.trans hF
    refine z_aload_n (n := 101) dX7_readNot_100 rfl 0 rfl rfl ?_
    refine z_bipush (n := 103) (v := (-28)) dX7_readNot_101 rfl (by first | decide | omega) ?_
    obtain ⟨I_30, c_29, hF⟩ := zb1_some hF
    refine z_cV (n := 106) (st := []) (C_X7_lay htr hM c_29) dX7_readNot_103 rfl (lw_V q1957 q1959 qs63 q131 q1960) hcee_X7_lay rfl (by first | decide | omega) hM.1 rfl rfl rfl (by first | exact Nat.le_of_ble_eq_true rfl | omega) (Nat.le_refl _) (Nat.le_refl _) ?_
    obtain ⟨v3_31, e_32, hF⟩ := zlet_ob hF
    refine z_iincE (n := 109) (w := 1) (v := v3_31) (lv' := [(3, .int v3_31), (0, .ref 1860), (2, .int v2_17)]) dX7_readNot_106 rfl 2 rfl (by first | decide | omega) e_32 (by first | decide | omega) rfl ?_
    refine z_goto (t := 95) dX7_readNot_109 (by first | decide | omega) ?_
    refine z_sub [1, 2, 0] rfl ?_
    have hF := Option.some.inj hF; subst hF
    exact kl v3_31 I_30 rfl
set_option maxHeartbeats 1000000 in
theorem C_X7_readNot {l : Launch} {G : zGt} (htr : l.stackTraces = false) {K : zKd} {F : zFd} {L : zLd} {ex_ : Int32 → zId → Option zId} {a0 : Int32} {fb lb : Nat} (hM : zMLay K F) (hex : ∀ (a : Int32) (I r : zId), ex_ a I = some r → zMet l G yX7_readExpression (ws_ yX7_readExpression cX7_readExpression 3 none) fb lb 0 0 [.ref 1860, .int a] K F I L (zQe (.inl none) K F r L)) {I : zId} {r : zId} (hF : F_X7_readNot K F ex_ a0 I = some r) : zMet l G yX7_readNot (ws_ yX7_readNot cX7_readNot 4 none) (fb + 9) (lb + 196) 0 0 [.ref 1860, .int a0] K F I L (zQe (.inl none) K F r L) := by
  refine zMet.of (by decide +kernel) htr (by first | exact Nat.le_of_ble_eq_true rfl | omega) ?_
  change zW l G MX7_readNot (fb + 9) (lb + 196) 0 0 0 [(0, .ref 1860), (1, .int a0)] [] K F I L (zQe (.inl none) K F r L)
  unfold F_X7_readNot at hF
  refine z_iconst (n := 1) (v := 0) dX7_readNot_0 rfl (by first | decide | omega) ?_
  refine z_istore_nE (n := 2) (lv' := [(2, .int 0), (0, .ref 1860), (1, .int a0)]) dX7_readNot_1 rfl rfl rfl (by first | decide | omega) rfl ?_
  refine z_sub [1, 2, 0] rfl ?_
  obtain ⟨t_64, e_63, hF⟩ := zb1_some hF
  obtain ⟨v2_17, I_18⟩ := t_64
  dsimp only [zn2] at hF
  have H_65 : zW l G MX7_readNot (fb + 9) (lb + 196) 0 0 39 [(0, .ref 1860), (1, .int a0), (2, .int v2_17)] [] K F I_18 L (zQe (.inl none) K F r L) := by
    refine z_aload_n (n := 40) dX7_readNot_39 rfl 0 rfl rfl ?_
    refine z_iload_n (n := 41) dX7_readNot_40 rfl 1 rfl rfl ?_
    obtain ⟨I_20, c_19, hF⟩ := zb1_some hF
    refine z_cV (n := 44) (st := []) (C_X7_readSum htr hM hex c_19) dX7_readNot_41 rfl (lw_V q1945 q1947 qs60 q131 q1948) hcee_X7_readSum rfl (by first | decide | omega) hM.1 rfl rfl rfl (by first | exact Nat.le_of_ble_eq_true rfl | omega) (Nat.le_refl _) (Nat.le_refl _) ?_
    refine z_aload_n (n := 45) dX7_readNot_44 rfl 0 rfl rfl ?_
    refine z_bipush (n := 47) (v := 60) dX7_readNot_45 rfl (by first | decide | omega) ?_
    obtain ⟨x_22, c_21, hF⟩ := zb1_some hF
    refine z_cV (n := 50) (st := []) (C_X7_isMarked htr hM c_21) dX7_readNot_47 rfl (lw_V q1932 q1934 qs57 q131 q1935) hcee_X7_isMarked rfl (by first | decide | omega) hM.1 rfl rfl rfl (by first | exact Nat.le_of_ble_eq_true rfl | omega) (Nat.le_refl _) (Nat.le_refl _) ?_
    obtain ⟨k_24, e_25, hF⟩ := zlet_ob hF
    have H_26 : ∀ (I_23 : zId), k_24 I_23 = some r → zW l G MX7_readNot (fb + 9) (lb + 196) 0 0 93 [(0, .ref 1860), (2, .int v2_17)] [] K F I_23 L (zQe (.inl none) K F r L) := by
      intro I_23 hF
      subst e_25
      dsimp only at hF
      refine z_iconst (n := 94) (v := 0) dX7_readNot_93 rfl (by first | decide | omega) ?_
      refine z_istore_nE (n := 95) (lv' := [(3, .int 0), (0, .ref 1860), (2, .int v2_17)]) dX7_readNot_94 rfl rfl rfl (by first | decide | omega) rfl ?_
      refine z_sub [1, 2, 0] rfl ?_
      obtain ⟨t_35, e_34, hF⟩ := zb1_some hF
      obtain ⟨I_33, rfl⟩ : ∃ z, z = t_35 := ⟨_, rfl⟩
      have H_36 : zW l G MX7_readNot (fb + 9) (lb + 196) 0 0 112 [] [] K F I_33 L (zQe (.inl none) K F r L) := by
        have hF := Option.some.inj hF; subst hF
        exact z_vret dX7_readNot_112 rfl ⟨rfl, rfl, rfl, rfl, rfl⟩
      refine zloop_ind (P := fun s : Int32 × zId => zW l G MX7_readNot (fb + 9) (lb + 196) 0 0 95 [(0, .ref 1860), (2, .int v2_17), (3, .int s.1)] [] K F s.2 L (zQe (.inl none) K F r L)) (fun s r hb kl kr => ?_) e_34
      exact W_X7_readNot_L95 (ex_ := ex_) (a0 := a0) htr hM hex hb (fun z0 z1 e => kl _ e) (fun y0 e => by cases kr _ e; exact H_36)
    clear e_25
    refine z_if_ne (n := 53) (t := 62) dX7_readNot_50 rfl (by first | decide | omega) (fun hc => ?_) (fun hc => ?_)
    · replace hF := (if_pos hc).symm.trans hF
      refine z_aload_n (n := 63) dX7_readNot_62 rfl 0 rfl rfl ?_
      refine z_bipush (n := 65) (v := 60) dX7_readNot_63 rfl (by first | decide | omega) ?_
      obtain ⟨x_38, c_37, hF⟩ := zb1_some hF
      refine z_cV (n := 68) (st := []) (C_X7_isMarked htr hM c_37) dX7_readNot_65 rfl (lw_V q1932 q1934 qs57 q131 q1935) hcee_X7_isMarked rfl (by first | decide | omega) hM.1 rfl rfl rfl (by first | exact Nat.le_of_ble_eq_true rfl | omega) (Nat.le_refl _) (Nat.le_refl _) ?_
      obtain ⟨k_40, e_41, hF⟩ := zlet_ob hF
      have H_42 : ∀ (w_39 : Int32), k_40 w_39 = some r → zW l G MX7_readNot (fb + 9) (lb + 196) 0 0 78 [(0, .ref 1860), (1, .int a0), (2, .int v2_17)] [.int w_39] K F I_20 L (zQe (.inl none) K F r L) := by
        intro w_39 hF
        subst e_41
        dsimp only at hF
        refine z_istore_nE (n := 79) (lv' := [(3, .int w_39), (0, .ref 1860), (1, .int a0), (2, .int v2_17)]) dX7_readNot_78 rfl rfl rfl (by first | decide | omega) rfl ?_
        refine z_aload_n (n := 80) dX7_readNot_79 rfl 1 rfl rfl ?_
        obtain ⟨I_44, c_43, hF⟩ := zb1_some hF
        refine z_cV (n := 83) (st := []) (C_X7_stepOn htr hM c_43) dX7_readNot_80 rfl (lw_V q1883 q1885 qs49 q131 q1886) hcee_X7_stepOn rfl (by first | decide | omega) hM.1 rfl rfl rfl (by first | exact Nat.le_of_ble_eq_true rfl | omega) (Nat.le_refl _) (Nat.le_refl _) ?_
        refine z_aload_n (n := 84) dX7_readNot_83 rfl 1 rfl rfl ?_
        refine z_iload_n (n := 85) dX7_readNot_84 rfl 2 rfl rfl ?_
        obtain ⟨I_46, c_45, hF⟩ := zb1_some hF
        refine z_cV (n := 88) (st := []) (C_X7_readSum htr hM hex c_45) dX7_readNot_85 rfl (lw_V q1945 q1947 qs60 q131 q1948) hcee_X7_readSum rfl (by first | decide | omega) hM.1 rfl rfl rfl (by first | exact Nat.le_of_ble_eq_true rfl | omega) (Nat.le_refl _) (Nat.le_refl _) ?_
        refine z_aload_n (n := 89) dX7_readNot_88 rfl 1 rfl rfl ?_
        refine z_iload_n (n := 90) dX7_readNot_89 rfl 0 rfl rfl ?_
        obtain ⟨I_48, c_47, hF⟩ := zb1_some hF
        refine z_cV (n := 93) (st := []) (C_X7_lay htr hM c_47) dX7_readNot_90 rfl (lw_V q1957 q1959 qs63 q131 q1960) hcee_X7_lay rfl (by first | decide | omega) hM.1 rfl rfl rfl (by first | exact Nat.le_of_ble_eq_true rfl | omega) (Nat.le_refl _) (Nat.le_refl _) ?_
        refine z_sub [1, 3] rfl ?_
        exact H_26 I_48 hF
      clear e_41
      refine z_if_eq (n := 71) (t := 76) dX7_readNot_68 rfl (by first | decide | omega) (fun hc => ?_) (fun hc => ?_)
      · replace hF := (if_pos hc).symm.trans hF
        refine z_bipush (n := 78) (v := (-25)) dX7_readNot_76 rfl (by first | decide | omega) ?_
        exact H_42 (-25) hF
      · replace hF := (if_neg hc).symm.trans hF
        refine z_bipush (n := 73) (v := (-24)) dX7_readNot_71 rfl (by first | decide | omega) ?_
        refine z_goto (t := 78) dX7_readNot_73 (by first | decide | omega) ?_
        exact H_42 (-24) hF
    · replace hF := (if_neg hc).symm.trans hF
      refine z_aload_n (n := 54) dX7_readNot_53 rfl 0 rfl rfl ?_
      refine z_bipush (n := 56) (v := 61) dX7_readNot_54 rfl (by first | decide | omega) ?_
      obtain ⟨x_50, c_49, hF⟩ := zb1_some hF
      refine z_cV (n := 59) (st := []) (C_X7_isMarked htr hM c_49) dX7_readNot_56 rfl (lw_V q1932 q1934 qs57 q131 q1935) hcee_X7_isMarked rfl (by first | decide | omega) hM.1 rfl rfl rfl (by first | exact Nat.le_of_ble_eq_true rfl | omega) (Nat.le_refl _) (Nat.le_refl _) ?_
      refine z_if_eq (n := 62) (t := 93) dX7_readNot_59 rfl (by first | decide | omega) (fun hc => ?_) (fun hc => ?_)
      · replace hF := (if_pos hc).symm.trans hF
        refine z_sub [0, 2] rfl ?_
        exact H_26 I_20 hF
      · replace hF := (if_neg hc).symm.trans hF
        refine z_aload_n (n := 63) dX7_readNot_62 rfl 0 rfl rfl ?_
        refine z_bipush (n := 65) (v := 60) dX7_readNot_63 rfl (by first | decide | omega) ?_
        obtain ⟨x_52, c_51, hF⟩ := zb1_some hF
        refine z_cV (n := 68) (st := []) (C_X7_isMarked htr hM c_51) dX7_readNot_65 rfl (lw_V q1932 q1934 qs57 q131 q1935) hcee_X7_isMarked rfl (by first | decide | omega) hM.1 rfl rfl rfl (by first | exact Nat.le_of_ble_eq_true rfl | omega) (Nat.le_refl _) (Nat.le_refl _) ?_
        obtain ⟨k_54, e_55, hF⟩ := zlet_ob hF
        have H_56 : ∀ (w_53 : Int32), k_54 w_53 = some r → zW l G MX7_readNot (fb + 9) (lb + 196) 0 0 78 [(0, .ref 1860), (1, .int a0), (2, .int v2_17)] [.int w_53] K F I_20 L (zQe (.inl none) K F r L) := by
          intro w_53 hF
          subst e_55
          dsimp only at hF
          refine z_istore_nE (n := 79) (lv' := [(3, .int w_53), (0, .ref 1860), (1, .int a0), (2, .int v2_17)]) dX7_readNot_78 rfl rfl rfl (by first | decide | omega) rfl ?_
          refine z_aload_n (n := 80) dX7_readNot_79 rfl 1 rfl rfl ?_
          obtain ⟨I_58, c_57, hF⟩ := zb1_some hF
          refine z_cV (n := 83) (st := []) (C_X7_stepOn htr hM c_57) dX7_readNot_80 rfl (lw_V q1883 q1885 qs49 q131 q1886) hcee_X7_stepOn rfl (by first | decide | omega) hM.1 rfl rfl rfl (by first | exact Nat.le_of_ble_eq_true rfl | omega) (Nat.le_refl _) (Nat.le_refl _) ?_
          refine z_aload_n (n := 84) dX7_readNot_83 rfl 1 rfl rfl ?_
          refine z_iload_n (n := 85) dX7_readNot_84 rfl 2 rfl rfl ?_
          obtain ⟨I_60, c_59, hF⟩ := zb1_some hF
          refine z_cV (n := 88) (st := []) (C_X7_readSum htr hM hex c_59) dX7_readNot_85 rfl (lw_V q1945 q1947 qs60 q131 q1948) hcee_X7_readSum rfl (by first | decide | omega) hM.1 rfl rfl rfl (by first | exact Nat.le_of_ble_eq_true rfl | omega) (Nat.le_refl _) (Nat.le_refl _) ?_
          refine z_aload_n (n := 89) dX7_readNot_88 rfl 1 rfl rfl ?_
          refine z_iload_n (n := 90) dX7_readNot_89 rfl 0 rfl rfl ?_
          obtain ⟨I_62, c_61, hF⟩ := zb1_some hF
          refine z_cV (n := 93) (st := []) (C_X7_lay htr hM c_61) dX7_readNot_90 rfl (lw_V q1957 q1959 qs63 q131 q1960) hcee_X7_lay rfl (by first | decide | omega) hM.1 rfl rfl rfl (by first | exact Nat.le_of_ble_eq_true rfl | omega) (Nat.le_refl _) (Nat.le_refl _) ?_
          refine z_sub [1, 3] rfl ?_
          exact H_26 I_62 hF
        clear e_55
        refine z_if_eq (n := 71) (t := 76) dX7_readNot_68 rfl (by first | decide | omega) (fun hc => ?_) (fun hc => ?_)
        · replace hF := (if_pos hc).symm.trans hF
          refine z_bipush (n := 78) (v := (-25)) dX7_readNot_76 rfl (by first | decide | omega) ?_
          exact H_56 (-25) hF
        · replace hF := (if_neg hc).symm.trans hF
          refine z_bipush (n := 73) (v := (-24)) dX7_readNot_71 rfl (by first | decide | omega) ?_
          refine z_goto (t := 78) dX7_readNot_73 (by first | decide | omega) ?_
          exact H_56 (-24) hF
  refine zloop_ind (P := fun s : Int32 × zId => zW l G MX7_readNot (fb + 9) (lb + 196) 0 0 2 [(0, .ref 1860), (1, .int a0), (2, .int s.1)] [] K F s.2 L (zQe (.inl none) K F r L)) (fun s r hb kl kr => ?_) e_63
  exact W_X7_readNot_L2 (ex_ := ex_) (a0 := a0) htr hM hex hb (fun z0 z1 e => kl _ e) (fun y0 y1 e => by cases kr _ e; exact H_65)
theorem hcee_X7_readNot : zCee yX7_readNot RX7 1 := ⟨rfl, by decide +kernel, by decide +kernel, by decide +kernel⟩
theorem zlit_X7_263 : ((RX7, 263, "and", 102) : String × Nat × String × Nat) ∈ zLit := List.mem_of_getElem? (i := 36) rfl
abbrev MX7_readAnd : zM := (RX7, cX7_readAnd, 2, none, "readAnd", [])
noncomputable def F_X7_readAnd_L5 (K : zKd) (F : zFd) (ex_ : Int32 → zId → Option zId) (a0 : Int32) (I_3 : zId) : Option ((zId) ⊕ (zId)) := zka K 102 15 (fun n_5 => zb1 (F_X7_is K F 102 I_3) (fun x_7 => if x_7 = 0 then some (.inr (I_3)) else zb1 (F_X7_stepOn I_3) (fun I_9 => zb1 (F_X7_readNot K F ex_ a0 I_9) (fun I_11 => zb1 (F_X7_lay (-26) I_11) (fun I_13 => some (.inl I_13))))))
noncomputable def F_X7_readAnd (K : zKd) (F : zFd) (ex_ : Int32 → zId → Option zId) (a0 : Int32) (I : zId) : Option (zId) := zb1 (F_X7_readNot K F ex_ a0 I) (fun I_2 => zb1 (zloop (fun s : zId => F_X7_readAnd_L5 K F ex_ a0 s) I_2) (fun I_14 => some I_14))
set_option maxHeartbeats 1000000 in
theorem W_X7_readAnd_L5 {l : Launch} {G : zGt} (htr : l.stackTraces = false) {K : zKd} {F : zFd} {L : zLd} {Q : zQt} {ex_ : Int32 → zId → Option zId} {a0 : Int32} {I_3 : zId} {fb lb : Nat} (hM : zMLay K F) (hex : ∀ (a : Int32) (I r : zId), ex_ a I = some r → zMet l G yX7_readExpression (ws_ yX7_readExpression cX7_readExpression 3 none) fb lb 0 0 [.ref 1860, .int a] K F I L (zQe (.inl none) K F r L)) {r : (zId) ⊕ (zId)} (hF : F_X7_readAnd_L5 K F ex_ a0 I_3 = some r) (kl : ∀ (z0 : zId), r = .inl z0 → zW l G MX7_readAnd (fb + 10) (lb + 219) 0 0 5 [(0, .ref 1860), (1, .int a0)] [] K F z0 L Q) (kx : ∀ (y0 : zId), r = .inr y0 → zW l G MX7_readAnd (fb + 10) (lb + 219) 0 0 33 [] [] K F y0 L Q)  : zW l G MX7_readAnd (fb + 10) (lb + 219) 0 0 5 [(0, .ref 1860), (1, .int a0)] [] K F I_3 L Q := by
  unfold F_X7_readAnd_L5 at hF
  refine z_aload_n (n := 6) dX7_readAnd_5 rfl 0 rfl rfl ?_
  obtain ⟨n_5, hk_4, hF⟩ := zka_some hF
  refine z_ldcwS (n := 9) (j := 102) dX7_readAnd_6 rfl zlit_X7_263 (by first | decide | omega) (znn hk_4) ?_
  obtain ⟨x_7, c_6, hF⟩ := zb1_some hF
  refine z_cV (n := 12) (st := []) (C_X7_is htr hM c_6) dX7_readAnd_9 rfl (lw_V q1907 q1909 qs52 q131 q1910) hcee_X7_is rfl (by first | decide | omega) hM.1 rfl rfl rfl (by first | exact Nat.le_of_ble_eq_true rfl | omega) (Nat.le_refl _) (Nat.le_refl _) ?_
  refine z_if_eq (n := 15) (t := 33) dX7_readAnd_12 rfl (by first | decide | omega) (fun hc => ?_) (fun hc => ?_)
  · replace hF := (if_pos hc).symm.trans hF
    refine z_sub [] rfl ?_
    have hF := Option.some.inj hF; subst hF
    exact kx I_3 rfl
  · replace hF := (if_neg hc).symm.trans hF
    refine z_aload_n (n := 16) dX7_readAnd_15 rfl 0 rfl rfl ?_
    obtain ⟨I_9, c_8, hF⟩ := zb1_some hF
    refine z_cV (n := 19) (st := []) (C_X7_stepOn htr hM c_8) dX7_readAnd_16 rfl (lw_V q1883 q1885 qs49 q131 q1886) hcee_X7_stepOn rfl (by first | decide | omega) hM.1 rfl rfl rfl (by first | exact Nat.le_of_ble_eq_true rfl | omega) (Nat.le_refl _) (Nat.le_refl _) ?_
    refine z_aload_n (n := 20) dX7_readAnd_19 rfl 0 rfl rfl ?_
    refine z_iload_n (n := 21) dX7_readAnd_20 rfl 1 rfl rfl ?_
    obtain ⟨I_11, c_10, hF⟩ := zb1_some hF
    refine z_cV (n := 24) (st := []) (C_X7_readNot htr hM hex c_10) dX7_readAnd_21 rfl (lw_V q1940 q1942 qs59 q131 q1943) hcee_X7_readNot rfl (by first | decide | omega) hM.1 rfl rfl rfl (by first | exact Nat.le_of_ble_eq_true rfl | omega) (Nat.le_refl _) (Nat.le_refl _) ?_
    refine z_aload_n (n := 25) dX7_readAnd_24 rfl 0 rfl rfl ?_
    refine z_bipush (n := 27) (v := (-26)) dX7_readAnd_25 rfl (by first | decide | omega) ?_
    obtain ⟨I_13, c_12, hF⟩ := zb1_some hF
    refine z_cV (n := 30) (st := []) (C_X7_lay htr hM c_12) dX7_readAnd_27 rfl (lw_V q1957 q1959 qs63 q131 q1960) hcee_X7_lay rfl (by first | decide | omega) hM.1 rfl rfl rfl (by first | exact Nat.le_of_ble_eq_true rfl | omega) (Nat.le_refl _) (Nat.le_refl _) ?_
    refine z_goto (t := 5) dX7_readAnd_30 (by first | decide | omega) ?_
    have hF := Option.some.inj hF; subst hF
    exact kl I_13 rfl
set_option maxHeartbeats 1000000 in
theorem C_X7_readAnd {l : Launch} {G : zGt} (htr : l.stackTraces = false) {K : zKd} {F : zFd} {L : zLd} {ex_ : Int32 → zId → Option zId} {a0 : Int32} {fb lb : Nat} (hM : zMLay K F) (hex : ∀ (a : Int32) (I r : zId), ex_ a I = some r → zMet l G yX7_readExpression (ws_ yX7_readExpression cX7_readExpression 3 none) fb lb 0 0 [.ref 1860, .int a] K F I L (zQe (.inl none) K F r L)) {I : zId} {r : zId} (hF : F_X7_readAnd K F ex_ a0 I = some r) : zMet l G yX7_readAnd (ws_ yX7_readAnd cX7_readAnd 2 none) (fb + 10) (lb + 219) 0 0 [.ref 1860, .int a0] K F I L (zQe (.inl none) K F r L) := by
  refine zMet.of (by decide +kernel) htr (by first | exact Nat.le_of_ble_eq_true rfl | omega) ?_
  change zW l G MX7_readAnd (fb + 10) (lb + 219) 0 0 0 [(0, .ref 1860), (1, .int a0)] [] K F I L (zQe (.inl none) K F r L)
  unfold F_X7_readAnd at hF
  refine z_aload_n (n := 1) dX7_readAnd_0 rfl 0 rfl rfl ?_
  refine z_iload_n (n := 2) dX7_readAnd_1 rfl 1 rfl rfl ?_
  obtain ⟨I_2, c_1, hF⟩ := zb1_some hF
  refine z_cV (n := 5) (st := []) (C_X7_readNot htr hM hex c_1) dX7_readAnd_2 rfl (lw_V q1940 q1942 qs59 q131 q1943) hcee_X7_readNot rfl (by first | decide | omega) hM.1 rfl rfl rfl (by first | exact Nat.le_of_ble_eq_true rfl | omega) (Nat.le_refl _) (Nat.le_refl _) ?_
  obtain ⟨t_16, e_15, hF⟩ := zb1_some hF
  obtain ⟨I_14, rfl⟩ : ∃ z, z = t_16 := ⟨_, rfl⟩
  have H_17 : zW l G MX7_readAnd (fb + 10) (lb + 219) 0 0 33 [] [] K F I_14 L (zQe (.inl none) K F r L) := by
    have hF := Option.some.inj hF; subst hF
    exact z_vret dX7_readAnd_33 rfl ⟨rfl, rfl, rfl, rfl, rfl⟩
  refine zloop_ind (P := fun s : zId => zW l G MX7_readAnd (fb + 10) (lb + 219) 0 0 5 [(0, .ref 1860), (1, .int a0)] [] K F s L (zQe (.inl none) K F r L)) (fun s r hb kl kr => ?_) e_15
  exact W_X7_readAnd_L5 (ex_ := ex_) (a0 := a0) htr hM hex hb (fun z0 e => kl _ e) (fun y0 e => by cases kr _ e; exact H_17)
theorem hcee_X7_readAnd : zCee yX7_readAnd RX7 1 := ⟨rfl, by decide +kernel, by decide +kernel, by decide +kernel⟩
theorem zlit_X7_268 : ((RX7, 268, "or", 104) : String × Nat × String × Nat) ∈ zLit := List.mem_of_getElem? (i := 37) rfl
abbrev MX7_readExpression : zM := (RX7, cX7_readExpression, 3, none, "readExpression", [])
noncomputable def F_X7_readExpression_L67 (K : zKd) (F : zFd) (ex_ : Int32 → zId → Option zId) (a0 : Int32) (I_11 : zId) : Option ((zId) ⊕ (zId)) := zka K 104 15 (fun n_13 => zb1 (F_X7_is K F 104 I_11) (fun x_15 => if x_15 = 0 then some (.inr (I_11)) else zb1 (F_X7_stepOn I_11) (fun I_17 => zb1 (F_X7_readAnd K F ex_ a0 I_17) (fun I_19 => zb1 (F_X7_lay (-27) I_19) (fun I_21 => some (.inl I_21))))))
noncomputable def F_X7_readExpression (K : zKd) (F : zFd) (ex_ : Int32 → zId → Option zId) (a0 : Int32) (I : zId) : Option (zId) := if (I 1860 22) = 0 then zlet (fun (w_1 : Int32) => zlet (fun (I_5 : zId) => zb1 (F_X7_readAnd K F ex_ a0 I_5) (fun I_10 => zb1 (zloop (fun s : zId => F_X7_readExpression_L67 K F ex_ a0 s) I_10) (fun I_22 => some I_22))) (fun k_6 => if ¬ w_1 = 0 then if ¬ a0 = 6 then k_6 I else zb1 (F_X7_wrong 2 I) (fun I_27 => k_6 I_27) else zb1 (F_X7_wrong 1 I) (fun I_29 => k_6 I_29))) (fun k_2 => if (I 1860 18) = 2 then k_2 1 else if (I 1860 18) = 1 then k_2 1 else zb1 (F_X7_isMarked 40 I) (fun x_31 => if x_31 = 0 then k_2 0 else k_2 1)) else some I
set_option maxHeartbeats 1000000 in
theorem W_X7_readExpression_L67 {l : Launch} {G : zGt} (htr : l.stackTraces = false) {K : zKd} {F : zFd} {L : zLd} {Q : zQt} {ex_ : Int32 → zId → Option zId} {a0 : Int32} {I_11 : zId} {fb lb : Nat} (hM : zMLay K F) (hex : ∀ (a : Int32) (I r : zId), ex_ a I = some r → zMet l G yX7_readExpression (ws_ yX7_readExpression cX7_readExpression 3 none) fb lb 0 0 [.ref 1860, .int a] K F I L (zQe (.inl none) K F r L)) {r : (zId) ⊕ (zId)} (hF : F_X7_readExpression_L67 K F ex_ a0 I_11 = some r) (kl : ∀ (z0 : zId), r = .inl z0 → zW l G MX7_readExpression (fb + 11) (lb + 240) 0 0 67 [(0, .ref 1860), (1, .int a0)] [] K F z0 L Q) (kx : ∀ (y0 : zId), r = .inr y0 → zW l G MX7_readExpression (fb + 11) (lb + 240) 0 0 95 [] [] K F y0 L Q)  : zW l G MX7_readExpression (fb + 11) (lb + 240) 0 0 67 [(0, .ref 1860), (1, .int a0)] [] K F I_11 L Q := by
  unfold F_X7_readExpression_L67 at hF
  refine z_aload_n (n := 68) dX7_readExpression_67 rfl 0 rfl rfl ?_
  obtain ⟨n_13, hk_12, hF⟩ := zka_some hF
  refine z_ldcwS (n := 71) (j := 104) dX7_readExpression_68 rfl zlit_X7_268 (by first | decide | omega) (znn hk_12) ?_
  obtain ⟨x_15, c_14, hF⟩ := zb1_some hF
  refine z_cV (n := 74) (st := []) (C_X7_is htr hM c_14) dX7_readExpression_71 rfl (lw_V q1907 q1909 qs52 q131 q1910) hcee_X7_is rfl (by first | decide | omega) hM.1 rfl rfl rfl (by first | exact Nat.le_of_ble_eq_true rfl | omega) (Nat.le_refl _) (Nat.le_refl _) ?_
  refine z_if_eq (n := 77) (t := 95) dX7_readExpression_74 rfl (by first | decide | omega) (fun hc => ?_) (fun hc => ?_)
  · replace hF := (if_pos hc).symm.trans hF
    refine z_sub [] rfl ?_
    have hF := Option.some.inj hF; subst hF
    exact kx I_11 rfl
  · replace hF := (if_neg hc).symm.trans hF
    refine z_aload_n (n := 78) dX7_readExpression_77 rfl 0 rfl rfl ?_
    obtain ⟨I_17, c_16, hF⟩ := zb1_some hF
    refine z_cV (n := 81) (st := []) (C_X7_stepOn htr hM c_16) dX7_readExpression_78 rfl (lw_V q1883 q1885 qs49 q131 q1886) hcee_X7_stepOn rfl (by first | decide | omega) hM.1 rfl rfl rfl (by first | exact Nat.le_of_ble_eq_true rfl | omega) (Nat.le_refl _) (Nat.le_refl _) ?_
    refine z_aload_n (n := 82) dX7_readExpression_81 rfl 0 rfl rfl ?_
    refine z_iload_n (n := 83) dX7_readExpression_82 rfl 1 rfl rfl ?_
    obtain ⟨I_19, c_18, hF⟩ := zb1_some hF
    refine z_cV (n := 86) (st := []) (C_X7_readAnd htr hM hex c_18) dX7_readExpression_83 rfl (lw_V q1936 q1938 qs58 q131 q1939) hcee_X7_readAnd rfl (by first | decide | omega) hM.1 rfl rfl rfl (by first | exact Nat.le_of_ble_eq_true rfl | omega) (Nat.le_refl _) (Nat.le_refl _) ?_
    refine z_aload_n (n := 87) dX7_readExpression_86 rfl 0 rfl rfl ?_
    refine z_bipush (n := 89) (v := (-27)) dX7_readExpression_87 rfl (by first | decide | omega) ?_
    obtain ⟨I_21, c_20, hF⟩ := zb1_some hF
    refine z_cV (n := 92) (st := []) (C_X7_lay htr hM c_20) dX7_readExpression_89 rfl (lw_V q1957 q1959 qs63 q131 q1960) hcee_X7_lay rfl (by first | decide | omega) hM.1 rfl rfl rfl (by first | exact Nat.le_of_ble_eq_true rfl | omega) (Nat.le_refl _) (Nat.le_refl _) ?_
    refine z_goto (t := 67) dX7_readExpression_92 (by first | decide | omega) ?_
    have hF := Option.some.inj hF; subst hF
    exact kl I_21 rfl
set_option maxHeartbeats 1000000 in
theorem C_X7_readExpression {l : Launch} {G : zGt} (htr : l.stackTraces = false) {K : zKd} {F : zFd} {L : zLd} {ex_ : Int32 → zId → Option zId} {a0 : Int32} {fb lb : Nat} (hM : zMLay K F) (hex : ∀ (a : Int32) (I r : zId), ex_ a I = some r → zMet l G yX7_readExpression (ws_ yX7_readExpression cX7_readExpression 3 none) fb lb 0 0 [.ref 1860, .int a] K F I L (zQe (.inl none) K F r L)) {I : zId} {r : zId} (hF : F_X7_readExpression K F ex_ a0 I = some r) : zMet l G yX7_readExpression (ws_ yX7_readExpression cX7_readExpression 3 none) (fb + 11) (lb + 240) 0 0 [.ref 1860, .int a0] K F I L (zQe (.inl none) K F r L) := by
  refine zMet.of (by decide +kernel) htr (by first | exact Nat.le_of_ble_eq_true rfl | omega) ?_
  change zW l G MX7_readExpression (fb + 11) (lb + 240) 0 0 0 [(0, .ref 1860), (1, .int a0)] [] K F I L (zQe (.inl none) K F r L)
  unfold F_X7_readExpression at hF
  refine z_aload_n (n := 1) dX7_readExpression_0 rfl 0 rfl rfl ?_
  refine z_getI (n := 4) dX7_readExpression_1 rfl zok6 fX7_199_6 rfl hM.1 (Or.inl (by first | decide | omega)) ?_
  refine z_if_eq (n := 7) (t := 8) dX7_readExpression_4 rfl (by first | decide | omega) (fun hc => ?_) (fun hc => ?_)
  · replace hF := (if_pos hc).symm.trans hF
    refine z_aload_n (n := 9) dX7_readExpression_8 rfl 0 rfl rfl ?_
    refine z_getI (n := 12) dX7_readExpression_9 rfl zok6 fX7_173_6 rfl hM.1 (Or.inl (by first | decide | omega)) ?_
    refine z_iconst (n := 13) (v := 2) dX7_readExpression_12 rfl (by first | decide | omega) ?_
    obtain ⟨k_2, e_3, hF⟩ := zlet_ob hF
    have H_4 : ∀ (w_1 : Int32), k_2 w_1 = some r → zW l G MX7_readExpression (fb + 11) (lb + 240) 0 0 38 [(0, .ref 1860), (1, .int a0)] [.int w_1] K F I L (zQe (.inl none) K F r L) := by
      intro w_1 hF
      subst e_3
      dsimp only at hF
      refine z_istore_nE (n := 39) (lv' := [(2, .int w_1), (0, .ref 1860), (1, .int a0)]) dX7_readExpression_38 rfl rfl rfl (by first | decide | omega) rfl ?_
      refine z_iload_n (n := 40) dX7_readExpression_39 rfl 0 rfl rfl ?_
      obtain ⟨k_6, e_7, hF⟩ := zlet_ob hF
      have H_8 : ∀ (I_5 : zId), k_6 I_5 = some r → zW l G MX7_readExpression (fb + 11) (lb + 240) 0 0 62 [(0, .ref 1860), (1, .int a0)] [] K F I_5 L (zQe (.inl none) K F r L) := by
        intro I_5 hF
        subst e_7
        dsimp only at hF
        refine z_aload_n (n := 63) dX7_readExpression_62 rfl 0 rfl rfl ?_
        refine z_iload_n (n := 64) dX7_readExpression_63 rfl 1 rfl rfl ?_
        obtain ⟨I_10, c_9, hF⟩ := zb1_some hF
        refine z_cV (n := 67) (st := []) (C_X7_readAnd htr hM hex c_9) dX7_readExpression_64 rfl (lw_V q1936 q1938 qs58 q131 q1939) hcee_X7_readAnd rfl (by first | decide | omega) hM.1 rfl rfl rfl (by first | exact Nat.le_of_ble_eq_true rfl | omega) (Nat.le_refl _) (Nat.le_refl _) ?_
        obtain ⟨t_24, e_23, hF⟩ := zb1_some hF
        obtain ⟨I_22, rfl⟩ : ∃ z, z = t_24 := ⟨_, rfl⟩
        have H_25 : zW l G MX7_readExpression (fb + 11) (lb + 240) 0 0 95 [] [] K F I_22 L (zQe (.inl none) K F r L) := by
          have hF := Option.some.inj hF; subst hF
          exact z_vret dX7_readExpression_95 rfl ⟨rfl, rfl, rfl, rfl, rfl⟩
        refine zloop_ind (P := fun s : zId => zW l G MX7_readExpression (fb + 11) (lb + 240) 0 0 67 [(0, .ref 1860), (1, .int a0)] [] K F s L (zQe (.inl none) K F r L)) (fun s r hb kl kr => ?_) e_23
        exact W_X7_readExpression_L67 (ex_ := ex_) (a0 := a0) htr hM hex hb (fun z0 e => kl _ e) (fun y0 e => by cases kr _ e; exact H_25)
      clear e_7
      refine z_if_ne (n := 43) (t := 51) dX7_readExpression_40 rfl (by first | decide | omega) (fun hc => ?_) (fun hc => ?_)
      · replace hF := (if_pos hc).symm.trans hF
        refine z_iload_n (n := 52) dX7_readExpression_51 rfl 2 rfl rfl ?_
        refine z_bipush (n := 54) (v := 6) dX7_readExpression_52 rfl (by first | decide | omega) ?_
        refine z_icmp_ne (n := 57) (t := 62) dX7_readExpression_54 rfl (by first | decide | omega) (fun hc => ?_) (fun hc => ?_)
        · replace hF := (if_pos hc).symm.trans hF
          refine z_sub [1, 2] rfl ?_
          exact H_8 I hF
        · replace hF := (if_neg hc).symm.trans hF
          refine z_aload_n (n := 58) dX7_readExpression_57 rfl 1 rfl rfl ?_
          refine z_iconst (n := 59) (v := 2) dX7_readExpression_58 rfl (by first | decide | omega) ?_
          obtain ⟨I_27, c_26, hF⟩ := zb1_some hF
          refine z_cV (n := 62) (st := []) (C_X7_wrong htr hM c_26) dX7_readExpression_59 rfl (lw_V q1916 q1918 qs53 q131 q1919) hcee_X7_wrong rfl (by first | decide | omega) hM.1 rfl rfl rfl (by first | exact Nat.le_of_ble_eq_true rfl | omega) (Nat.le_refl _) (Nat.le_refl _) ?_
          refine z_sub [1, 2] rfl ?_
          exact H_8 I_27 hF
      · replace hF := (if_neg hc).symm.trans hF
        refine z_aload_n (n := 44) dX7_readExpression_43 rfl 1 rfl rfl ?_
        refine z_iconst (n := 45) (v := 1) dX7_readExpression_44 rfl (by first | decide | omega) ?_
        obtain ⟨I_29, c_28, hF⟩ := zb1_some hF
        refine z_cV (n := 48) (st := []) (C_X7_wrong htr hM c_28) dX7_readExpression_45 rfl (lw_V q1916 q1918 qs53 q131 q1919) hcee_X7_wrong rfl (by first | decide | omega) hM.1 rfl rfl rfl (by first | exact Nat.le_of_ble_eq_true rfl | omega) (Nat.le_refl _) (Nat.le_refl _) ?_
        refine z_goto (t := 62) dX7_readExpression_48 (by first | decide | omega) ?_
        refine z_sub [1, 2] rfl ?_
        exact H_8 I_29 hF
    clear e_3
    refine z_icmp_eq (n := 16) (t := 33) dX7_readExpression_13 rfl (by first | decide | omega) (fun hc => ?_) (fun hc => ?_)
    · replace hF := (if_pos hc).symm.trans hF
      refine z_iconst (n := 34) (v := 1) dX7_readExpression_33 rfl (by first | decide | omega) ?_
      refine z_goto (t := 38) dX7_readExpression_34 (by first | decide | omega) ?_
      exact H_4 1 hF
    · replace hF := (if_neg hc).symm.trans hF
      refine z_aload_n (n := 17) dX7_readExpression_16 rfl 0 rfl rfl ?_
      refine z_getI (n := 20) dX7_readExpression_17 rfl zok6 fX7_173_6 rfl hM.1 (Or.inl (by first | decide | omega)) ?_
      refine z_iconst (n := 21) (v := 1) dX7_readExpression_20 rfl (by first | decide | omega) ?_
      refine z_icmp_eq (n := 24) (t := 33) dX7_readExpression_21 rfl (by first | decide | omega) (fun hc => ?_) (fun hc => ?_)
      · replace hF := (if_pos hc).symm.trans hF
        refine z_iconst (n := 34) (v := 1) dX7_readExpression_33 rfl (by first | decide | omega) ?_
        refine z_goto (t := 38) dX7_readExpression_34 (by first | decide | omega) ?_
        exact H_4 1 hF
      · replace hF := (if_neg hc).symm.trans hF
        refine z_aload_n (n := 25) dX7_readExpression_24 rfl 0 rfl rfl ?_
        refine z_bipush (n := 27) (v := 40) dX7_readExpression_25 rfl (by first | decide | omega) ?_
        obtain ⟨x_31, c_30, hF⟩ := zb1_some hF
        refine z_cV (n := 30) (st := []) (C_X7_isMarked htr hM c_30) dX7_readExpression_27 rfl (lw_V q1932 q1934 qs57 q131 q1935) hcee_X7_isMarked rfl (by first | decide | omega) hM.1 rfl rfl rfl (by first | exact Nat.le_of_ble_eq_true rfl | omega) (Nat.le_refl _) (Nat.le_refl _) ?_
        refine z_if_eq (n := 33) (t := 37) dX7_readExpression_30 rfl (by first | decide | omega) (fun hc => ?_) (fun hc => ?_)
        · replace hF := (if_pos hc).symm.trans hF
          refine z_iconst (n := 38) (v := 0) dX7_readExpression_37 rfl (by first | decide | omega) ?_
          exact H_4 0 hF
        · replace hF := (if_neg hc).symm.trans hF
          refine z_iconst (n := 34) (v := 1) dX7_readExpression_33 rfl (by first | decide | omega) ?_
          refine z_goto (t := 38) dX7_readExpression_34 (by first | decide | omega) ?_
          exact H_4 1 hF
  · replace hF := (if_neg hc).symm.trans hF
    have hF := Option.some.inj hF; subst hF
    exact z_vret dX7_readExpression_7 rfl ⟨rfl, rfl, rfl, rfl, rfl⟩
noncomputable def F_expr7 (K : zKd) (F : zFd) : Nat → Int32 → zId → Option zId
  | 0, _, _ => none
  | d + 1, a, I => F_X7_readExpression K F (F_expr7 K F d) a I
theorem C_expr7 {l : Launch} {G : zGt} (htr : l.stackTraces = false) {K : zKd} {F : zFd} {L : zLd} (hM : zMLay K F) : ∀ (d : Nat) (a : Int32) (I r : zId), F_expr7 K F d a I = some r → zMet l G yX7_readExpression (ws_ yX7_readExpression cX7_readExpression 3 none) (11 * d) (240 * d) 0 0 [.ref 1860, .int a] K F I L (zQe (.inl none) K F r L) := by
  intro d
  induction d with
  | zero => intro a I r e; cases e
  | succ d ih =>
    intro a I r e
    exact C_X7_readExpression htr (fb := 11 * d) (lb := 240 * d) hM ih e
theorem fX7_29_6 : zFld RX7 29 6 2 := ⟨_, rfl, by decide, _, Or.inl q1679, Or.inl rfl⟩
theorem hcee_X7_sayBand : zCee yX7_sayBand RX7 0 := ⟨rfl, by decide +kernel, by decide +kernel, by decide +kernel⟩
theorem hcee_X7_sayForest : zCee yX7_sayForest RX7 0 := ⟨rfl, by decide +kernel, by decide +kernel, by decide +kernel⟩
theorem hcee_X7_sayFort : zCee yX7_sayFort RX7 0 := ⟨rfl, by decide +kernel, by decide +kernel, by decide +kernel⟩
theorem hcee_X7_sayRiver : zCee yX7_sayRiver RX7 0 := ⟨rfl, by decide +kernel, by decide +kernel, by decide +kernel⟩
theorem zlit_X7_277 : ((RX7, 277, "tax", 106) : String × Nat × String × Nat) ∈ zLit := List.mem_of_getElem? (i := 38) rfl
theorem zlit_X7_279 : ((RX7, 279, "fox", 108) : String × Nat × String × Nat) ∈ zLit := List.mem_of_getElem? (i := 39) rfl
theorem zlit_X7_281 : ((RX7, 281, "limit", 110) : String × Nat × String × Nat) ∈ zLit := List.mem_of_getElem? (i := 40) rfl
theorem zlit_X7_283 : ((RX7, 283, "hunts", 112) : String × Nat × String × Nat) ∈ zLit := List.mem_of_getElem? (i := 41) rfl
theorem zlit_X7_285 : ((RX7, 285, "forest", 114) : String × Nat × String × Nat) ∈ zLit := List.mem_of_getElem? (i := 42) rfl
theorem zlit_X7_290 : ((RX7, 290, "river", 116) : String × Nat × String × Nat) ∈ zLit := List.mem_of_getElem? (i := 43) rfl
theorem zlit_X7_294 : ((RX7, 294, "band", 118) : String × Nat × String × Nat) ∈ zLit := List.mem_of_getElem? (i := 44) rfl
theorem zlit_X7_299 : ((RX7, 299, "fort", 120) : String × Nat × String × Nat) ∈ zLit := List.mem_of_getElem? (i := 45) rfl
abbrev MX7_readLine : zM := (RX7, cX7_readLine, 3, (some .int), "readLine", [])
noncomputable def F_X7_readLine (K : zKd) (F : zFd) (a0 : Int32) (I : zId) : Option (Int32 × zId) := zka K 106 15 (fun n_2 => zb1 (F_X7_is K F 106 I) (fun x_4 => zlet (fun (w_5 : Int32) => zlet (fun (I_9 : zId) => zlet (fun (I_13 : zId) => zb1 (F_X7_mark 59 I_13) (fun I_18 => some (a0 ||| w_5, I_18))) (fun k_14 => if w_5 ≤ 0 then zka K 114 15 (fun n_20 => zb1 (F_X7_is K F 114 I_9) (fun x_22 => if x_22 = 0 then zka K 116 15 (fun n_24 => zb1 (F_X7_is K F 116 I_9) (fun x_26 => if x_26 = 0 then zka K 118 15 (fun n_28 => zb1 (F_X7_is K F 118 I_9) (fun x_30 => if x_30 = 0 then zka K 120 15 (fun n_32 => zb1 (F_X7_is K F 120 I_9) (fun x_34 => if x_34 = 0 then zb1 (F_X7_wrong 1 I_9) (fun I_36 => k_14 I_36) else zb1 (F_X7_sayFort I_9) (fun I_38 => k_14 I_38))) else zb1 (F_X7_sayBand I_9) (fun I_40 => k_14 I_40))) else zb1 (F_X7_sayRiver I_9) (fun I_42 => k_14 I_42))) else zb1 (F_X7_sayForest I_9) (fun I_44 => k_14 I_44))) else zlet (fun (I_45 : zId) => if ¬ w_5 = 1 then if ¬ w_5 = 2 then if ¬ w_5 = 4 then zb1 (F_expr7 K F 64 0 I_45) (fun I_50 => k_14 I_50) else zb2 (F_X7_readNumber 0 99 I_45) (fun x_52 I_53 => zlet (zu I_53 1862 14 x_52) (fun I_54 => k_14 I_54)) else zb2 (F_X7_readNumber 1 9 I_45) (fun x_57 I_58 => zlet (zu I_58 1862 13 x_57) (fun I_59 => k_14 I_59)) else zb2 (F_X7_readNumber 0 9 I_45) (fun x_62 I_63 => zlet (zu I_63 1862 12 x_62) (fun I_64 => k_14 I_64))) (fun k_46 => if ¬ (I_9 1860 22) = 0 then k_46 I_9 else zb1 (F_X7_stepOn I_9) (fun I_67 => k_46 I_67)))) (fun k_10 => if (w_5 &&& a0) = 0 then k_10 I else zb1 (F_X7_wrong 5 I) (fun I_69 => k_10 I_69))) (fun k_6 => if x_4 = 0 then zka K 108 15 (fun n_71 => zb1 (F_X7_is K F 108 I) (fun x_73 => if x_73 = 0 then zka K 110 15 (fun n_75 => zb1 (F_X7_is K F 110 I) (fun x_77 => if x_77 = 0 then zka K 112 15 (fun n_79 => zb1 (F_X7_is K F 112 I) (fun x_81 => if x_81 = 0 then k_6 0 else k_6 8)) else k_6 4)) else k_6 2)) else k_6 1)))
set_option maxHeartbeats 1000000 in
theorem C_X7_readLine {l : Launch} {G : zGt} (htr : l.stackTraces = false) {K : zKd} {F : zFd} {L : zLd} {a0 : Int32} (hM : zMLay K F) {I : zId} {r : Int32 × zId} (hF : F_X7_readLine K F a0 I = some r) : zMet l G yX7_readLine (ws_ yX7_readLine cX7_readLine 3 (some .int)) 705 15382 0 0 [.ref 1860, .int a0] K F I L (zQe (.inl (some (.int r.1))) K F r.2 L) := by
  refine zMet.of (by decide +kernel) htr (Nat.le_of_ble_eq_true rfl) ?_
  change zW l G MX7_readLine 705 15382 0 0 0 [(0, .ref 1860), (1, .int a0)] [] K F I L (zQe (.inl (some (.int r.1))) K F r.2 L)
  unfold F_X7_readLine at hF
  refine z_aload_n (n := 1) dX7_readLine_0 rfl 0 rfl rfl ?_
  obtain ⟨n_2, hk_1, hF⟩ := zka_some hF
  refine z_ldcwS (n := 4) (j := 106) dX7_readLine_1 rfl zlit_X7_277 (by decide) (znn hk_1) ?_
  obtain ⟨x_4, c_3, hF⟩ := zb1_some hF
  refine z_cV (n := 7) (st := []) (C_X7_is htr hM c_3) dX7_readLine_4 rfl (lw_V q1907 q1909 qs52 q131 q1910) hcee_X7_is rfl (by decide) hM.1 rfl rfl rfl (Nat.le_of_ble_eq_true rfl) (Nat.le_refl _) (Nat.le_refl _) ?_
  obtain ⟨k_6, e_7, hF⟩ := zlet_ob hF
  have H_8 : ∀ (w_5 : Int32), k_6 w_5 = some r → zW l G MX7_readLine 705 15382 0 0 58 [(0, .ref 1860), (1, .int a0)] [.int w_5] K F I L (zQe (.inl (some (.int r.1))) K F r.2 L) := by
    intro w_5 hF
    subst e_7
    dsimp only at hF
    refine z_istore_nE (n := 59) (lv' := [(2, .int w_5), (0, .ref 1860), (1, .int a0)]) dX7_readLine_58 rfl rfl rfl (by decide) rfl ?_
    refine z_iload_n (n := 60) dX7_readLine_59 rfl 0 rfl rfl ?_
    refine z_iload_n (n := 61) dX7_readLine_60 rfl 2 rfl rfl ?_
    refine z_iand (n := 62) dX7_readLine_61 rfl ?_
    obtain ⟨k_10, e_11, hF⟩ := zlet_ob hF
    have H_12 : ∀ (I_9 : zId), k_10 I_9 = some r → zW l G MX7_readLine 705 15382 0 0 70 [(0, .ref 1860), (1, .int a0), (2, .int w_5)] [] K F I_9 L (zQe (.inl (some (.int r.1))) K F r.2 L) := by
      intro I_9 hF
      subst e_11
      dsimp only at hF
      refine z_iload_n (n := 71) dX7_readLine_70 rfl 2 rfl rfl ?_
      obtain ⟨k_14, e_15, hF⟩ := zlet_ob hF
      have H_16 : ∀ (I_13 : zId), k_14 I_13 = some r → zW l G MX7_readLine 705 15382 0 0 232 [(0, .ref 1860), (1, .int a0), (2, .int w_5)] [] K F I_13 L (zQe (.inl (some (.int r.1))) K F r.2 L) := by
        intro I_13 hF
        subst e_15
        dsimp only at hF
        refine z_aload_n (n := 233) dX7_readLine_232 rfl 0 rfl rfl ?_
        refine z_bipush (n := 235) (v := 59) dX7_readLine_233 rfl (by decide) ?_
        obtain ⟨I_18, c_17, hF⟩ := zb1_some hF
        refine z_cV (n := 238) (st := []) (C_X7_mark htr hM c_17) dX7_readLine_235 rfl (lw_V q1965 q1967 qs65 q131 q1968) hcee_X7_mark rfl (by decide) hM.1 rfl rfl rfl (Nat.le_of_ble_eq_true rfl) (Nat.le_refl _) (Nat.le_refl _) ?_
        refine z_iload_n (n := 239) dX7_readLine_238 rfl 1 rfl rfl ?_
        refine z_iload_n (n := 240) dX7_readLine_239 rfl 2 rfl rfl ?_
        refine z_ior (n := 241) dX7_readLine_240 rfl ?_
        have hF := Option.some.inj hF; subst hF
        exact z_iret dX7_readLine_241 rfl rfl ⟨rfl, rfl, rfl, rfl, rfl⟩
      clear e_15
      refine z_if_le (n := 74) (t := 159) dX7_readLine_71 rfl (by decide) (fun hc => ?_) (fun hc => ?_)
      · replace hF := (if_pos hc).symm.trans hF
        refine z_aload_n (n := 160) dX7_readLine_159 rfl 0 rfl rfl ?_
        obtain ⟨n_20, hk_19, hF⟩ := zka_some hF
        refine z_ldcwS (n := 163) (j := 114) dX7_readLine_160 rfl zlit_X7_285 (by decide) (znn hk_19) ?_
        obtain ⟨x_22, c_21, hF⟩ := zb1_some hF
        refine z_cV (n := 166) (st := []) (C_X7_is htr hM c_21) dX7_readLine_163 rfl (lw_V q1907 q1909 qs52 q131 q1910) hcee_X7_is rfl (by decide) hM.1 rfl rfl rfl (Nat.le_of_ble_eq_true rfl) (Nat.le_refl _) (Nat.le_refl _) ?_
        refine z_if_eq (n := 169) (t := 176) dX7_readLine_166 rfl (by decide) (fun hc => ?_) (fun hc => ?_)
        · replace hF := (if_pos hc).symm.trans hF
          refine z_aload_n (n := 177) dX7_readLine_176 rfl 0 rfl rfl ?_
          obtain ⟨n_24, hk_23, hF⟩ := zka_some hF
          refine z_ldcwS (n := 180) (j := 116) dX7_readLine_177 rfl zlit_X7_290 (by decide) (znn hk_23) ?_
          obtain ⟨x_26, c_25, hF⟩ := zb1_some hF
          refine z_cV (n := 183) (st := []) (C_X7_is htr hM c_25) dX7_readLine_180 rfl (lw_V q1907 q1909 qs52 q131 q1910) hcee_X7_is rfl (by decide) hM.1 rfl rfl rfl (Nat.le_of_ble_eq_true rfl) (Nat.le_refl _) (Nat.le_refl _) ?_
          refine z_if_eq (n := 186) (t := 193) dX7_readLine_183 rfl (by decide) (fun hc => ?_) (fun hc => ?_)
          · replace hF := (if_pos hc).symm.trans hF
            refine z_aload_n (n := 194) dX7_readLine_193 rfl 0 rfl rfl ?_
            obtain ⟨n_28, hk_27, hF⟩ := zka_some hF
            refine z_ldcwS (n := 197) (j := 118) dX7_readLine_194 rfl zlit_X7_294 (by decide) (znn hk_27) ?_
            obtain ⟨x_30, c_29, hF⟩ := zb1_some hF
            refine z_cV (n := 200) (st := []) (C_X7_is htr hM c_29) dX7_readLine_197 rfl (lw_V q1907 q1909 qs52 q131 q1910) hcee_X7_is rfl (by decide) hM.1 rfl rfl rfl (Nat.le_of_ble_eq_true rfl) (Nat.le_refl _) (Nat.le_refl _) ?_
            refine z_if_eq (n := 203) (t := 210) dX7_readLine_200 rfl (by decide) (fun hc => ?_) (fun hc => ?_)
            · replace hF := (if_pos hc).symm.trans hF
              refine z_aload_n (n := 211) dX7_readLine_210 rfl 0 rfl rfl ?_
              obtain ⟨n_32, hk_31, hF⟩ := zka_some hF
              refine z_ldcwS (n := 214) (j := 120) dX7_readLine_211 rfl zlit_X7_299 (by decide) (znn hk_31) ?_
              obtain ⟨x_34, c_33, hF⟩ := zb1_some hF
              refine z_cV (n := 217) (st := []) (C_X7_is htr hM c_33) dX7_readLine_214 rfl (lw_V q1907 q1909 qs52 q131 q1910) hcee_X7_is rfl (by decide) hM.1 rfl rfl rfl (Nat.le_of_ble_eq_true rfl) (Nat.le_refl _) (Nat.le_refl _) ?_
              refine z_if_eq (n := 220) (t := 227) dX7_readLine_217 rfl (by decide) (fun hc => ?_) (fun hc => ?_)
              · replace hF := (if_pos hc).symm.trans hF
                refine z_aload_n (n := 228) dX7_readLine_227 rfl 0 rfl rfl ?_
                refine z_iconst (n := 229) (v := 1) dX7_readLine_228 rfl (by decide) ?_
                obtain ⟨I_36, c_35, hF⟩ := zb1_some hF
                refine z_cV (n := 232) (st := []) (C_X7_wrong htr hM c_35) dX7_readLine_229 rfl (lw_V q1916 q1918 qs53 q131 q1919) hcee_X7_wrong rfl (by decide) hM.1 rfl rfl rfl (Nat.le_of_ble_eq_true rfl) (Nat.le_refl _) (Nat.le_refl _) ?_
                exact H_16 I_36 hF
              · replace hF := (if_neg hc).symm.trans hF
                refine z_aload_n (n := 221) dX7_readLine_220 rfl 0 rfl rfl ?_
                obtain ⟨I_38, c_37, hF⟩ := zb1_some hF
                refine z_cV (n := 224) (st := []) (C_X7_sayFort htr hM c_37) dX7_readLine_221 rfl (lw_V q1999 q2001 qs72 q131 q2002) hcee_X7_sayFort rfl (by decide) hM.1 rfl rfl rfl (Nat.le_of_ble_eq_true rfl) (Nat.le_refl _) (Nat.le_refl _) ?_
                refine z_goto (t := 232) dX7_readLine_224 (by decide) ?_
                exact H_16 I_38 hF
            · replace hF := (if_neg hc).symm.trans hF
              refine z_aload_n (n := 204) dX7_readLine_203 rfl 0 rfl rfl ?_
              obtain ⟨I_40, c_39, hF⟩ := zb1_some hF
              refine z_cV (n := 207) (st := []) (C_X7_sayBand htr hM c_39) dX7_readLine_204 rfl (lw_V q1994 q1996 qs71 q131 q1997) hcee_X7_sayBand rfl (by decide) hM.1 rfl rfl rfl (Nat.le_of_ble_eq_true rfl) (Nat.le_refl _) (Nat.le_refl _) ?_
              refine z_goto (t := 232) dX7_readLine_207 (by decide) ?_
              exact H_16 I_40 hF
          · replace hF := (if_neg hc).symm.trans hF
            refine z_aload_n (n := 187) dX7_readLine_186 rfl 0 rfl rfl ?_
            obtain ⟨I_42, c_41, hF⟩ := zb1_some hF
            refine z_cV (n := 190) (st := []) (C_X7_sayRiver htr hM c_41) dX7_readLine_187 rfl (lw_V q1981 q1983 qs68 q131 q1984) hcee_X7_sayRiver rfl (by decide) hM.1 rfl rfl rfl (Nat.le_of_ble_eq_true rfl) (Nat.le_refl _) (Nat.le_refl _) ?_
            refine z_goto (t := 232) dX7_readLine_190 (by decide) ?_
            exact H_16 I_42 hF
        · replace hF := (if_neg hc).symm.trans hF
          refine z_aload_n (n := 170) dX7_readLine_169 rfl 0 rfl rfl ?_
          obtain ⟨I_44, c_43, hF⟩ := zb1_some hF
          refine z_cV (n := 173) (st := []) (C_X7_sayForest htr hM c_43) dX7_readLine_170 rfl (lw_V q1972 q1974 qs66 q131 q1975) hcee_X7_sayForest rfl (by decide) hM.1 rfl rfl rfl (Nat.le_of_ble_eq_true rfl) (Nat.le_refl _) (Nat.le_refl _) ?_
          refine z_goto (t := 232) dX7_readLine_173 (by decide) ?_
          exact H_16 I_44 hF
      · replace hF := (if_neg hc).symm.trans hF
        refine z_aload_n (n := 75) dX7_readLine_74 rfl 0 rfl rfl ?_
        refine z_getI (n := 78) dX7_readLine_75 rfl zok6 fX7_199_6 rfl hM.1 (Or.inl (by decide)) ?_
        obtain ⟨k_46, e_47, hF⟩ := zlet_ob hF
        have H_48 : ∀ (I_45 : zId), k_46 I_45 = some r → zW l G MX7_readLine 705 15382 0 0 85 [(0, .ref 1860), (1, .int a0), (2, .int w_5)] [] K F I_45 L (zQe (.inl (some (.int r.1))) K F r.2 L) := by
          intro I_45 hF
          subst e_47
          dsimp only at hF
          refine z_iload_n (n := 86) dX7_readLine_85 rfl 2 rfl rfl ?_
          refine z_iconst (n := 87) (v := 1) dX7_readLine_86 rfl (by decide) ?_
          refine z_icmp_ne (n := 90) (t := 107) dX7_readLine_87 rfl (by decide) (fun hc => ?_) (fun hc => ?_)
          · replace hF := (if_pos hc).symm.trans hF
            refine z_iload_n (n := 108) dX7_readLine_107 rfl 2 rfl rfl ?_
            refine z_iconst (n := 109) (v := 2) dX7_readLine_108 rfl (by decide) ?_
            refine z_icmp_ne (n := 112) (t := 129) dX7_readLine_109 rfl (by decide) (fun hc => ?_) (fun hc => ?_)
            · replace hF := (if_pos hc).symm.trans hF
              refine z_iload_n (n := 130) dX7_readLine_129 rfl 2 rfl rfl ?_
              refine z_iconst (n := 131) (v := 4) dX7_readLine_130 rfl (by decide) ?_
              refine z_icmp_ne (n := 134) (t := 151) dX7_readLine_131 rfl (by decide) (fun hc => ?_) (fun hc => ?_)
              · replace hF := (if_pos hc).symm.trans hF
                refine z_aload_n (n := 152) dX7_readLine_151 rfl 0 rfl rfl ?_
                refine z_iconst (n := 153) (v := 0) dX7_readLine_152 rfl (by decide) ?_
                obtain ⟨I_50, c_49, hF⟩ := zb1_some hF
                refine z_cV (n := 156) (st := []) (C_expr7 htr hM 64 _ _ _ c_49) dX7_readLine_153 rfl (lw_V q1928 q1930 qs56 q131 q1931) hcee_X7_readExpression rfl (by decide) hM.1 rfl rfl rfl (Nat.le_of_ble_eq_true rfl) (Nat.le_refl _) (Nat.le_refl _) ?_
                refine z_goto (t := 232) dX7_readLine_156 (by decide) ?_
                exact H_16 I_50 hF
              · replace hF := (if_neg hc).symm.trans hF
                refine z_aload_n (n := 135) dX7_readLine_134 rfl 0 rfl rfl ?_
                refine z_getRS (n := 138) dX7_readLine_135 rfl zok6 fX7_29_6 rfl hM.1 (Or.inl (by decide)) (mF_2 hM) ?_
                refine z_bipush (n := 140) (v := 14) dX7_readLine_138 rfl (by decide) ?_
                refine z_aload_n (n := 141) dX7_readLine_140 rfl 0 rfl rfl ?_
                refine z_iconst (n := 142) (v := 0) dX7_readLine_141 rfl (by decide) ?_
                refine z_bipush (n := 144) (v := 99) dX7_readLine_142 rfl (by decide) ?_
                obtain ⟨x_52, I_53, c_51, hF⟩ := zb2_some hF
                refine z_cV (n := 147) (st := [.int 14, .ref 1862]) (C_X7_readNumber htr hM c_51) dX7_readLine_144 rfl (lw_V q1920 q1922 qs54 q131 q1923) hcee_X7_readNumber rfl (by decide) hM.1 rfl rfl rfl (Nat.le_of_ble_eq_true rfl) (Nat.le_refl _) (Nat.le_refl _) ?_
                obtain ⟨I_54, e_55, hF⟩ := zlet_ob hF
                refine z_iastK (n := 148) 14 (by decide) dX7_readLine_147 rfl (mK_2 hM) (by decide) (zin_ok (i := 14) (n := 16) rfl) e_55 ?_
                refine z_goto (t := 232) dX7_readLine_148 (by decide) ?_
                exact H_16 I_54 hF
            · replace hF := (if_neg hc).symm.trans hF
              refine z_aload_n (n := 113) dX7_readLine_112 rfl 0 rfl rfl ?_
              refine z_getRS (n := 116) dX7_readLine_113 rfl zok6 fX7_29_6 rfl hM.1 (Or.inl (by decide)) (mF_2 hM) ?_
              refine z_bipush (n := 118) (v := 13) dX7_readLine_116 rfl (by decide) ?_
              refine z_aload_n (n := 119) dX7_readLine_118 rfl 0 rfl rfl ?_
              refine z_iconst (n := 120) (v := 1) dX7_readLine_119 rfl (by decide) ?_
              refine z_bipush (n := 122) (v := 9) dX7_readLine_120 rfl (by decide) ?_
              obtain ⟨x_57, I_58, c_56, hF⟩ := zb2_some hF
              refine z_cV (n := 125) (st := [.int 13, .ref 1862]) (C_X7_readNumber htr hM c_56) dX7_readLine_122 rfl (lw_V q1920 q1922 qs54 q131 q1923) hcee_X7_readNumber rfl (by decide) hM.1 rfl rfl rfl (Nat.le_of_ble_eq_true rfl) (Nat.le_refl _) (Nat.le_refl _) ?_
              obtain ⟨I_59, e_60, hF⟩ := zlet_ob hF
              refine z_iastK (n := 126) 13 (by decide) dX7_readLine_125 rfl (mK_2 hM) (by decide) (zin_ok (i := 13) (n := 16) rfl) e_60 ?_
              refine z_goto (t := 232) dX7_readLine_126 (by decide) ?_
              exact H_16 I_59 hF
          · replace hF := (if_neg hc).symm.trans hF
            refine z_aload_n (n := 91) dX7_readLine_90 rfl 0 rfl rfl ?_
            refine z_getRS (n := 94) dX7_readLine_91 rfl zok6 fX7_29_6 rfl hM.1 (Or.inl (by decide)) (mF_2 hM) ?_
            refine z_bipush (n := 96) (v := 12) dX7_readLine_94 rfl (by decide) ?_
            refine z_aload_n (n := 97) dX7_readLine_96 rfl 0 rfl rfl ?_
            refine z_iconst (n := 98) (v := 0) dX7_readLine_97 rfl (by decide) ?_
            refine z_bipush (n := 100) (v := 9) dX7_readLine_98 rfl (by decide) ?_
            obtain ⟨x_62, I_63, c_61, hF⟩ := zb2_some hF
            refine z_cV (n := 103) (st := [.int 12, .ref 1862]) (C_X7_readNumber htr hM c_61) dX7_readLine_100 rfl (lw_V q1920 q1922 qs54 q131 q1923) hcee_X7_readNumber rfl (by decide) hM.1 rfl rfl rfl (Nat.le_of_ble_eq_true rfl) (Nat.le_refl _) (Nat.le_refl _) ?_
            obtain ⟨I_64, e_65, hF⟩ := zlet_ob hF
            refine z_iastK (n := 104) 12 (by decide) dX7_readLine_103 rfl (mK_2 hM) (by decide) (zin_ok (i := 12) (n := 16) rfl) e_65 ?_
            refine z_goto (t := 232) dX7_readLine_104 (by decide) ?_
            exact H_16 I_64 hF
        clear e_47
        refine z_if_ne (n := 81) (t := 85) dX7_readLine_78 rfl (by decide) (fun hc => ?_) (fun hc => ?_)
        · replace hF := (if_pos hc).symm.trans hF
          exact H_48 I_9 hF
        · replace hF := (if_neg hc).symm.trans hF
          refine z_aload_n (n := 82) dX7_readLine_81 rfl 0 rfl rfl ?_
          obtain ⟨I_67, c_66, hF⟩ := zb1_some hF
          refine z_cV (n := 85) (st := []) (C_X7_stepOn htr hM c_66) dX7_readLine_82 rfl (lw_V q1883 q1885 qs49 q131 q1886) hcee_X7_stepOn rfl (by decide) hM.1 rfl rfl rfl (Nat.le_of_ble_eq_true rfl) (Nat.le_refl _) (Nat.le_refl _) ?_
          exact H_48 I_67 hF
    clear e_11
    refine z_if_eq (n := 65) (t := 70) dX7_readLine_62 rfl (by decide) (fun hc => ?_) (fun hc => ?_)
    · replace hF := (if_pos hc).symm.trans hF
      refine z_sub [1, 2, 0] rfl ?_
      exact H_12 I hF
    · replace hF := (if_neg hc).symm.trans hF
      refine z_aload_n (n := 66) dX7_readLine_65 rfl 1 rfl rfl ?_
      refine z_iconst (n := 67) (v := 5) dX7_readLine_66 rfl (by decide) ?_
      obtain ⟨I_69, c_68, hF⟩ := zb1_some hF
      refine z_cV (n := 70) (st := []) (C_X7_wrong htr hM c_68) dX7_readLine_67 rfl (lw_V q1916 q1918 qs53 q131 q1919) hcee_X7_wrong rfl (by decide) hM.1 rfl rfl rfl (Nat.le_of_ble_eq_true rfl) (Nat.le_refl _) (Nat.le_refl _) ?_
      refine z_sub [1, 2, 0] rfl ?_
      exact H_12 I_69 hF
  clear e_7
  refine z_if_eq (n := 10) (t := 14) dX7_readLine_7 rfl (by decide) (fun hc => ?_) (fun hc => ?_)
  · replace hF := (if_pos hc).symm.trans hF
    refine z_aload_n (n := 15) dX7_readLine_14 rfl 0 rfl rfl ?_
    obtain ⟨n_71, hk_70, hF⟩ := zka_some hF
    refine z_ldcwS (n := 18) (j := 108) dX7_readLine_15 rfl zlit_X7_279 (by decide) (znn hk_70) ?_
    obtain ⟨x_73, c_72, hF⟩ := zb1_some hF
    refine z_cV (n := 21) (st := []) (C_X7_is htr hM c_72) dX7_readLine_18 rfl (lw_V q1907 q1909 qs52 q131 q1910) hcee_X7_is rfl (by decide) hM.1 rfl rfl rfl (Nat.le_of_ble_eq_true rfl) (Nat.le_refl _) (Nat.le_refl _) ?_
    refine z_if_eq (n := 24) (t := 28) dX7_readLine_21 rfl (by decide) (fun hc => ?_) (fun hc => ?_)
    · replace hF := (if_pos hc).symm.trans hF
      refine z_aload_n (n := 29) dX7_readLine_28 rfl 0 rfl rfl ?_
      obtain ⟨n_75, hk_74, hF⟩ := zka_some hF
      refine z_ldcwS (n := 32) (j := 110) dX7_readLine_29 rfl zlit_X7_281 (by decide) (znn hk_74) ?_
      obtain ⟨x_77, c_76, hF⟩ := zb1_some hF
      refine z_cV (n := 35) (st := []) (C_X7_is htr hM c_76) dX7_readLine_32 rfl (lw_V q1907 q1909 qs52 q131 q1910) hcee_X7_is rfl (by decide) hM.1 rfl rfl rfl (Nat.le_of_ble_eq_true rfl) (Nat.le_refl _) (Nat.le_refl _) ?_
      refine z_if_eq (n := 38) (t := 42) dX7_readLine_35 rfl (by decide) (fun hc => ?_) (fun hc => ?_)
      · replace hF := (if_pos hc).symm.trans hF
        refine z_aload_n (n := 43) dX7_readLine_42 rfl 0 rfl rfl ?_
        obtain ⟨n_79, hk_78, hF⟩ := zka_some hF
        refine z_ldcwS (n := 46) (j := 112) dX7_readLine_43 rfl zlit_X7_283 (by decide) (znn hk_78) ?_
        obtain ⟨x_81, c_80, hF⟩ := zb1_some hF
        refine z_cV (n := 49) (st := []) (C_X7_is htr hM c_80) dX7_readLine_46 rfl (lw_V q1907 q1909 qs52 q131 q1910) hcee_X7_is rfl (by decide) hM.1 rfl rfl rfl (Nat.le_of_ble_eq_true rfl) (Nat.le_refl _) (Nat.le_refl _) ?_
        refine z_if_eq (n := 52) (t := 57) dX7_readLine_49 rfl (by decide) (fun hc => ?_) (fun hc => ?_)
        · replace hF := (if_pos hc).symm.trans hF
          refine z_iconst (n := 58) (v := 0) dX7_readLine_57 rfl (by decide) ?_
          exact H_8 0 hF
        · replace hF := (if_neg hc).symm.trans hF
          refine z_bipush (n := 54) (v := 8) dX7_readLine_52 rfl (by decide) ?_
          refine z_goto (t := 58) dX7_readLine_54 (by decide) ?_
          exact H_8 8 hF
      · replace hF := (if_neg hc).symm.trans hF
        refine z_iconst (n := 39) (v := 4) dX7_readLine_38 rfl (by decide) ?_
        refine z_goto (t := 58) dX7_readLine_39 (by decide) ?_
        exact H_8 4 hF
    · replace hF := (if_neg hc).symm.trans hF
      refine z_iconst (n := 25) (v := 2) dX7_readLine_24 rfl (by decide) ?_
      refine z_goto (t := 58) dX7_readLine_25 (by decide) ?_
      exact H_8 2 hF
  · replace hF := (if_neg hc).symm.trans hF
    refine z_iconst (n := 11) (v := 1) dX7_readLine_10 rfl (by decide) ?_
    refine z_goto (t := 58) dX7_readLine_11 (by decide) ?_
    exact H_8 1 hF
theorem fX7_45_6 : zFld RX7 45 6 7 := ⟨_, rfl, by decide, _, Or.inl q1684, Or.inl rfl⟩
theorem fX7_62_6 : zFld RX7 62 6 13 := ⟨_, rfl, by decide, _, Or.inl q1690, Or.inl rfl⟩
theorem fX7_68_6 : zFld RX7 68 6 24 := ⟨_, rfl, by decide, _, Or.inl q1701, Or.inl rfl⟩
theorem fX7_150_6 : zFld RX7 150 6 1 := ⟨_, rfl, by decide, _, Or.inl q1678, Or.inl rfl⟩
theorem fX7_157_6 : zFld RX7 157 6 15 := ⟨_, rfl, by decide, _, Or.inl q1692, Or.inl rfl⟩
theorem fX7_160_6 : zFld RX7 160 6 17 := ⟨_, rfl, by decide, _, Or.inl q1694, Or.inl rfl⟩
theorem fX7_163_6 : zFld RX7 163 6 16 := ⟨_, rfl, by decide, _, Or.inl q1693, Or.inl rfl⟩
theorem fX7_202_6 : zFld RX7 202 6 23 := ⟨_, rfl, by decide, _, Or.inl q1700, Or.inl rfl⟩
theorem hcee_X7_readLine : zCee yX7_readLine RX7 1 := ⟨rfl, by decide +kernel, by decide +kernel, by decide +kernel⟩
theorem hcee_X7_takeOver : zCee yX7_takeOver RX7 0 := ⟨rfl, by decide +kernel, by decide +kernel, by decide +kernel⟩
abbrev MX7_land : zM := (RX7, cX7_land, 3, (some .int), "land", [])
noncomputable def F_X7_land_L50 (v2_16 : Int32) (I_17 : zId) : Option ((Int32 × zId) ⊕ (zId)) := if 8 ≤ v2_16 then some (.inr (I_17)) else if ¬ v2_16 = 4 then if ¬ v2_16 = 5 then if ¬ v2_16 = 6 then zg (zin ((8 : Int32) + v2_16) 16) (zlet (zu I_17 1862 (((8 : Int32) + v2_16).toNatClampNeg) 0) (fun I_19 => zlet (v2_16 + 1) (fun v2_21 => some (.inl (v2_21, I_19))))) else zg (zin ((8 : Int32) + v2_16) 16) (zlet (zu I_17 1862 (((8 : Int32) + v2_16).toNatClampNeg) 20) (fun I_24 => zlet (v2_16 + 1) (fun v2_26 => some (.inl (v2_26, I_24))))) else zg (zin ((8 : Int32) + v2_16) 16) (zlet (zu I_17 1862 (((8 : Int32) + v2_16).toNatClampNeg) 3) (fun I_29 => zlet (v2_16 + 1) (fun v2_31 => some (.inl (v2_31, I_29))))) else zg (zin ((8 : Int32) + v2_16) 16) (zlet (zu I_17 1862 (((8 : Int32) + v2_16).toNatClampNeg) 2) (fun I_34 => zlet (v2_16 + 1) (fun v2_36 => some (.inl (v2_36, I_34)))))
noncomputable def F_X7_land_L103 (v2_39 : Int32) (I_40 : zId) : Option ((Int32 × zId) ⊕ (zId)) := if 64 ≤ v2_39 then some (.inr (I_40)) else zg (zin ((64 : Int32) + v2_39) 128) (zlet (zu I_40 1867 (((64 : Int32) + v2_39).toNatClampNeg) 0) (fun I_42 => zlet (v2_39 + 1) (fun v2_44 => some (.inl (v2_44, I_42)))))
noncomputable def F_X7_land_L131 (K : zKd) (F : zFd) (v2_49 : Int32) (I_50 : zId) : Option ((Int32 × zId) ⊕ (zId)) := if ¬ (I_50 1860 22) = 0 then some (.inr (I_50)) else if (I_50 1860 18) = 0 then some (.inr (I_50)) else zb2 (F_X7_readLine K F v2_49 I_50) (fun x_52 I_53 => some (.inl (x_52, I_53)))
noncomputable def F_X7_land (K : zKd) (F : zFd) (a0 : Int32) (I : zId) : Option (Int32 × zId) := zlet (zu I 1860 1 0) (fun I_1 => if a0 < 0 then zb2 (F_X7_fail 1 I_1) (fun x_4 I_5 => some (x_4, I_5)) else if a0 ≤ (I_1 1860 15) then zlet (zu I_1 1860 15 0) (fun I_6 => zlet (zu I_6 1860 17 a0) (fun I_8 => zlet (zu I_8 1860 16 0) (fun I_10 => zlet (zu I_10 1860 22 0) (fun I_12 => zlet (zu I_12 1860 24 (-1)) (fun I_14 => zb1 (zloop (fun s : Int32 × zId => F_X7_land_L50 s.1 s.2) (0, I_14)) (fun I_38 => zb1 (zloop (fun s : Int32 × zId => F_X7_land_L103 s.1 s.2) (0, I_38)) (fun I_46 => zb1 (F_X7_stepOn I_46) (fun I_48 => zb1 (zloop (fun s : Int32 × zId => F_X7_land_L131 K F s.1 s.2) (0, I_48)) (fun I_54 => if (I_54 1860 22) = 0 then zb1 (F_X7_takeOver I_54) (fun I_56 => some (0, I_56)) else zlet (zu I_54 1860 24 (I_54 1860 23)) (fun I_57 => zlet (zu I_57 1873 0 ((I_57 1873 0) + 1)) (fun I_59 => some (I_59 1860 22, I_59)))))))))))) else zb2 (F_X7_fail 1 I_1) (fun x_71 I_72 => some (x_71, I_72)))
set_option maxHeartbeats 1000000 in
theorem W_X7_land_L50 {l : Launch} {G : zGt} (htr : l.stackTraces = false) {K : zKd} {F : zFd} {L : zLd} {Q : zQt} {a0 : Int32} {v2_16 : Int32} {I_17 : zId} (hM : zMLay K F) {r : (Int32 × zId) ⊕ (zId)} (hF : F_X7_land_L50 v2_16 I_17 = some r) (kl : ∀ (z0 : Int32) (z1 : zId), r = .inl (z0, z1) → zW l G MX7_land 706 15404 0 0 50 [(0, .ref 1860), (2, .int z0)] [] K F z1 L Q) (kx : ∀ (y0 : zId), r = .inr y0 → zW l G MX7_land 706 15404 0 0 101 [(0, .ref 1860)] [] K F y0 L Q)  : zW l G MX7_land 706 15404 0 0 50 [(0, .ref 1860), (2, .int v2_16)] [] K F I_17 L Q := by
  unfold F_X7_land_L50 at hF
  refine z_iload_n (n := 51) dX7_land_50 rfl 1 rfl rfl ?_
  refine z_bipush (n := 53) (v := 8) dX7_land_51 rfl (by decide) ?_
  refine z_icmp_ge (n := 56) (t := 101) dX7_land_53 rfl (by decide) (fun hc => ?_) (fun hc => ?_)
  · replace hF := (if_pos hc).symm.trans hF
    refine z_sub [0] rfl ?_
    have hF := Option.some.inj hF; subst hF
    exact kx I_17 rfl
  · replace hF := (if_neg hc).symm.trans hF
    refine z_aload_n (n := 57) dX7_land_56 rfl 0 rfl rfl ?_
    refine z_getRS (n := 60) dX7_land_57 rfl zok6 fX7_29_6 rfl hM.1 (Or.inl (by decide)) (mF_2 hM) ?_
    refine z_bipush (n := 62) (v := 8) dX7_land_60 rfl (by decide) ?_
    refine z_iload_n (n := 63) dX7_land_62 rfl 1 rfl rfl ?_
    refine z_iadd (n := 64) dX7_land_63 rfl ?_
    refine z_iload_n (n := 65) dX7_land_64 rfl 1 rfl rfl ?_
    refine z_iconst (n := 66) (v := 4) dX7_land_65 rfl (by decide) ?_
    refine z_icmp_ne (n := 69) (t := 73) dX7_land_66 rfl (by decide) (fun hc => ?_) (fun hc => ?_)
    · replace hF := (if_pos hc).symm.trans hF
      refine z_iload_n (n := 74) dX7_land_73 rfl 1 rfl rfl ?_
      refine z_iconst (n := 75) (v := 5) dX7_land_74 rfl (by decide) ?_
      refine z_icmp_ne (n := 78) (t := 82) dX7_land_75 rfl (by decide) (fun hc => ?_) (fun hc => ?_)
      · replace hF := (if_pos hc).symm.trans hF
        refine z_iload_n (n := 83) dX7_land_82 rfl 1 rfl rfl ?_
        refine z_bipush (n := 85) (v := 6) dX7_land_83 rfl (by decide) ?_
        refine z_icmp_ne (n := 88) (t := 93) dX7_land_85 rfl (by decide) (fun hc => ?_) (fun hc => ?_)
        · replace hF := (if_pos hc).symm.trans hF
          refine z_iconst (n := 94) (v := 0) dX7_land_93 rfl (by decide) ?_
          obtain ⟨h_18, hF⟩ := zg_some hF
          obtain ⟨I_19, e_20, hF⟩ := zlet_ob hF
          refine z_iastK (n := 95) (((8 : Int32) + v2_16).toNatClampNeg) rfl dX7_land_94 rfl (mK_2 hM) (by decide) (zin_ok h_18) e_20 ?_
          obtain ⟨v2_21, e_22, hF⟩ := zlet_ob hF
          refine z_iincE (n := 98) (w := 1) (v := v2_21) (lv' := [(2, .int v2_21), (0, .ref 1860)]) dX7_land_95 rfl 1 rfl (by decide) e_22 (by decide) rfl ?_
          refine z_goto (t := 50) dX7_land_98 (by decide) ?_
          refine z_sub [1, 0] rfl ?_
          have hF := Option.some.inj hF; subst hF
          exact kl v2_21 I_19 rfl
        · replace hF := (if_neg hc).symm.trans hF
          refine z_bipush (n := 90) (v := 20) dX7_land_88 rfl (by decide) ?_
          refine z_goto (t := 94) dX7_land_90 (by decide) ?_
          obtain ⟨h_23, hF⟩ := zg_some hF
          obtain ⟨I_24, e_25, hF⟩ := zlet_ob hF
          refine z_iastK (n := 95) (((8 : Int32) + v2_16).toNatClampNeg) rfl dX7_land_94 rfl (mK_2 hM) (by decide) (zin_ok h_23) e_25 ?_
          obtain ⟨v2_26, e_27, hF⟩ := zlet_ob hF
          refine z_iincE (n := 98) (w := 1) (v := v2_26) (lv' := [(2, .int v2_26), (0, .ref 1860)]) dX7_land_95 rfl 1 rfl (by decide) e_27 (by decide) rfl ?_
          refine z_goto (t := 50) dX7_land_98 (by decide) ?_
          refine z_sub [1, 0] rfl ?_
          have hF := Option.some.inj hF; subst hF
          exact kl v2_26 I_24 rfl
      · replace hF := (if_neg hc).symm.trans hF
        refine z_iconst (n := 79) (v := 3) dX7_land_78 rfl (by decide) ?_
        refine z_goto (t := 94) dX7_land_79 (by decide) ?_
        obtain ⟨h_28, hF⟩ := zg_some hF
        obtain ⟨I_29, e_30, hF⟩ := zlet_ob hF
        refine z_iastK (n := 95) (((8 : Int32) + v2_16).toNatClampNeg) rfl dX7_land_94 rfl (mK_2 hM) (by decide) (zin_ok h_28) e_30 ?_
        obtain ⟨v2_31, e_32, hF⟩ := zlet_ob hF
        refine z_iincE (n := 98) (w := 1) (v := v2_31) (lv' := [(2, .int v2_31), (0, .ref 1860)]) dX7_land_95 rfl 1 rfl (by decide) e_32 (by decide) rfl ?_
        refine z_goto (t := 50) dX7_land_98 (by decide) ?_
        refine z_sub [1, 0] rfl ?_
        have hF := Option.some.inj hF; subst hF
        exact kl v2_31 I_29 rfl
    · replace hF := (if_neg hc).symm.trans hF
      refine z_iconst (n := 70) (v := 2) dX7_land_69 rfl (by decide) ?_
      refine z_goto (t := 94) dX7_land_70 (by decide) ?_
      obtain ⟨h_33, hF⟩ := zg_some hF
      obtain ⟨I_34, e_35, hF⟩ := zlet_ob hF
      refine z_iastK (n := 95) (((8 : Int32) + v2_16).toNatClampNeg) rfl dX7_land_94 rfl (mK_2 hM) (by decide) (zin_ok h_33) e_35 ?_
      obtain ⟨v2_36, e_37, hF⟩ := zlet_ob hF
      refine z_iincE (n := 98) (w := 1) (v := v2_36) (lv' := [(2, .int v2_36), (0, .ref 1860)]) dX7_land_95 rfl 1 rfl (by decide) e_37 (by decide) rfl ?_
      refine z_goto (t := 50) dX7_land_98 (by decide) ?_
      refine z_sub [1, 0] rfl ?_
      have hF := Option.some.inj hF; subst hF
      exact kl v2_36 I_34 rfl
set_option maxHeartbeats 1000000 in
theorem W_X7_land_L103 {l : Launch} {G : zGt} (htr : l.stackTraces = false) {K : zKd} {F : zFd} {L : zLd} {Q : zQt} {a0 : Int32} {v2_39 : Int32} {I_40 : zId} (hM : zMLay K F) {r : (Int32 × zId) ⊕ (zId)} (hF : F_X7_land_L103 v2_39 I_40 = some r) (kl : ∀ (z0 : Int32) (z1 : zId), r = .inl (z0, z1) → zW l G MX7_land 706 15404 0 0 103 [(0, .ref 1860), (2, .int z0)] [] K F z1 L Q) (kx : ∀ (y0 : zId), r = .inr y0 → zW l G MX7_land 706 15404 0 0 125 [(0, .ref 1860)] [] K F y0 L Q)  : zW l G MX7_land 706 15404 0 0 103 [(0, .ref 1860), (2, .int v2_39)] [] K F I_40 L Q := by
  unfold F_X7_land_L103 at hF
  refine z_iload_n (n := 104) dX7_land_103 rfl 1 rfl rfl ?_
  refine z_bipush (n := 106) (v := 64) dX7_land_104 rfl (by decide) ?_
  refine z_icmp_ge (n := 109) (t := 125) dX7_land_106 rfl (by decide) (fun hc => ?_) (fun hc => ?_)
  · replace hF := (if_pos hc).symm.trans hF
    refine z_sub [0] rfl ?_
    have hF := Option.some.inj hF; subst hF
    exact kx I_40 rfl
  · replace hF := (if_neg hc).symm.trans hF
    refine z_aload_n (n := 110) dX7_land_109 rfl 0 rfl rfl ?_
    refine z_getRS (n := 113) dX7_land_110 rfl zok6 fX7_45_6 rfl hM.1 (Or.inl (by decide)) (mF_7 hM) ?_
    refine z_bipush (n := 115) (v := 64) dX7_land_113 rfl (by decide) ?_
    refine z_iload_n (n := 116) dX7_land_115 rfl 1 rfl rfl ?_
    refine z_iadd (n := 117) dX7_land_116 rfl ?_
    refine z_iconst (n := 118) (v := 0) dX7_land_117 rfl (by decide) ?_
    obtain ⟨h_41, hF⟩ := zg_some hF
    obtain ⟨I_42, e_43, hF⟩ := zlet_ob hF
    refine z_iastK (n := 119) (((64 : Int32) + v2_39).toNatClampNeg) rfl dX7_land_118 rfl (mK_7 hM) (by decide) (zin_ok h_41) e_43 ?_
    obtain ⟨v2_44, e_45, hF⟩ := zlet_ob hF
    refine z_iincE (n := 122) (w := 1) (v := v2_44) (lv' := [(2, .int v2_44), (0, .ref 1860)]) dX7_land_119 rfl 1 rfl (by decide) e_45 (by decide) rfl ?_
    refine z_goto (t := 103) dX7_land_122 (by decide) ?_
    refine z_sub [1, 0] rfl ?_
    have hF := Option.some.inj hF; subst hF
    exact kl v2_44 I_42 rfl
set_option maxHeartbeats 1000000 in
theorem W_X7_land_L131 {l : Launch} {G : zGt} (htr : l.stackTraces = false) {K : zKd} {F : zFd} {L : zLd} {Q : zQt} {a0 : Int32} {v2_49 : Int32} {I_50 : zId} (hM : zMLay K F) {r : (Int32 × zId) ⊕ (zId)} (hF : F_X7_land_L131 K F v2_49 I_50 = some r) (kl : ∀ (z0 : Int32) (z1 : zId), r = .inl (z0, z1) → zW l G MX7_land 706 15404 0 0 131 [(0, .ref 1860), (2, .int z0)] [] K F z1 L Q) (kx : ∀ (y0 : zId), r = .inr y0 → zW l G MX7_land 706 15404 0 0 154 [(0, .ref 1860)] [] K F y0 L Q)  : zW l G MX7_land 706 15404 0 0 131 [(0, .ref 1860), (2, .int v2_49)] [] K F I_50 L Q := by
  unfold F_X7_land_L131 at hF
  refine z_aload_n (n := 132) dX7_land_131 rfl 0 rfl rfl ?_
  refine z_getI (n := 135) dX7_land_132 rfl zok6 fX7_199_6 rfl hM.1 (Or.inl (by decide)) ?_
  refine z_if_ne (n := 138) (t := 154) dX7_land_135 rfl (by decide) (fun hc => ?_) (fun hc => ?_)
  · replace hF := (if_pos hc).symm.trans hF
    refine z_sub [0] rfl ?_
    have hF := Option.some.inj hF; subst hF
    exact kx I_50 rfl
  · replace hF := (if_neg hc).symm.trans hF
    refine z_aload_n (n := 139) dX7_land_138 rfl 0 rfl rfl ?_
    refine z_getI (n := 142) dX7_land_139 rfl zok6 fX7_173_6 rfl hM.1 (Or.inl (by decide)) ?_
    refine z_if_eq (n := 145) (t := 154) dX7_land_142 rfl (by decide) (fun hc => ?_) (fun hc => ?_)
    · replace hF := (if_pos hc).symm.trans hF
      refine z_sub [0] rfl ?_
      have hF := Option.some.inj hF; subst hF
      exact kx I_50 rfl
    · replace hF := (if_neg hc).symm.trans hF
      refine z_aload_n (n := 146) dX7_land_145 rfl 0 rfl rfl ?_
      refine z_iload_n (n := 147) dX7_land_146 rfl 1 rfl rfl ?_
      obtain ⟨x_52, I_53, c_51, hF⟩ := zb2_some hF
      refine z_cV (n := 150) (st := []) (C_X7_readLine htr hM c_51) dX7_land_147 rfl (lw_V q1902 q1904 qs51 q131 q1905) hcee_X7_readLine rfl (by decide) hM.1 rfl rfl rfl (Nat.le_of_ble_eq_true rfl) (Nat.le_refl _) (Nat.le_refl _) ?_
      refine z_istore_nE (n := 151) (lv' := [(2, .int x_52), (0, .ref 1860)]) dX7_land_150 rfl rfl rfl (by decide) rfl ?_
      refine z_goto (t := 131) dX7_land_151 (by decide) ?_
      refine z_sub [1, 0] rfl ?_
      have hF := Option.some.inj hF; subst hF
      exact kl x_52 I_53 rfl
set_option maxHeartbeats 1000000 in
theorem C_X7_land {l : Launch} {G : zGt} (htr : l.stackTraces = false) {K : zKd} {F : zFd} {L : zLd} {a0 : Int32} (hM : zMLay K F) {I : zId} {r : Int32 × zId} (hF : F_X7_land K F a0 I = some r) : zMet l G yX7_land (ws_ yX7_land cX7_land 3 (some .int)) 706 15404 0 0 [.ref 1860, .int a0] K F I L (zQe (.inl (some (.int r.1))) K F r.2 L) := by
  refine zMet.of (by decide +kernel) htr (Nat.le_of_ble_eq_true rfl) ?_
  change zW l G MX7_land 706 15404 0 0 0 [(0, .ref 1860), (1, .int a0)] [] K F I L (zQe (.inl (some (.int r.1))) K F r.2 L)
  unfold F_X7_land at hF
  refine z_aload_n (n := 1) dX7_land_0 rfl 0 rfl rfl ?_
  refine z_iconst (n := 2) (v := 0) dX7_land_1 rfl (by decide) ?_
  obtain ⟨I_1, e_2, hF⟩ := zlet_ob hF
  refine z_putIE (n := 5) dX7_land_2 rfl zok6 fX7_150_6 (Or.inl ⟨_, rfl, rfl⟩) rfl ⟨rfl, rfl⟩ hM.1 (by decide) e_2 ?_
  refine z_iload_n (n := 6) dX7_land_5 rfl 1 rfl rfl ?_
  refine z_if_lt (n := 9) (t := 17) dX7_land_6 rfl (by decide) (fun hc => ?_) (fun hc => ?_)
  · replace hF := (if_pos hc).symm.trans hF
    refine z_aload_n (n := 18) dX7_land_17 rfl 0 rfl rfl ?_
    refine z_iconst (n := 19) (v := 1) dX7_land_18 rfl (by decide) ?_
    obtain ⟨x_4, I_5, c_3, hF⟩ := zb2_some hF
    refine z_cV (n := 22) (st := []) (C_X7_fail htr hM c_3) dX7_land_19 rfl (lw_V q1879 q1881 qs48 q131 q1882) hcee_X7_fail rfl (by decide) hM.1 rfl rfl rfl (Nat.le_of_ble_eq_true rfl) (Nat.le_refl _) (Nat.le_refl _) ?_
    have hF := Option.some.inj hF; subst hF
    exact z_iret dX7_land_22 rfl rfl ⟨rfl, rfl, rfl, rfl, rfl⟩
  · replace hF := (if_neg hc).symm.trans hF
    refine z_iload_n (n := 10) dX7_land_9 rfl 1 rfl rfl ?_
    refine z_aload_n (n := 11) dX7_land_10 rfl 0 rfl rfl ?_
    refine z_getI (n := 14) dX7_land_11 rfl zok6 fX7_157_6 rfl hM.1 (Or.inl (by decide)) ?_
    refine z_icmp_le (n := 17) (t := 23) dX7_land_14 rfl (by decide) (fun hc => ?_) (fun hc => ?_)
    · replace hF := (if_pos hc).symm.trans hF
      refine z_aload_n (n := 24) dX7_land_23 rfl 0 rfl rfl ?_
      refine z_iconst (n := 25) (v := 0) dX7_land_24 rfl (by decide) ?_
      obtain ⟨I_6, e_7, hF⟩ := zlet_ob hF
      refine z_putIE (n := 28) dX7_land_25 rfl zok6 fX7_157_6 (Or.inl ⟨_, rfl, rfl⟩) rfl ⟨rfl, rfl⟩ hM.1 (by decide) e_7 ?_
      refine z_aload_n (n := 29) dX7_land_28 rfl 0 rfl rfl ?_
      refine z_iload_n (n := 30) dX7_land_29 rfl 1 rfl rfl ?_
      obtain ⟨I_8, e_9, hF⟩ := zlet_ob hF
      refine z_putIE (n := 33) dX7_land_30 rfl zok6 fX7_160_6 (Or.inl ⟨_, rfl, rfl⟩) rfl ⟨rfl, rfl⟩ hM.1 (by decide) e_9 ?_
      refine z_aload_n (n := 34) dX7_land_33 rfl 0 rfl rfl ?_
      refine z_iconst (n := 35) (v := 0) dX7_land_34 rfl (by decide) ?_
      obtain ⟨I_10, e_11, hF⟩ := zlet_ob hF
      refine z_putIE (n := 38) dX7_land_35 rfl zok6 fX7_163_6 (Or.inl ⟨_, rfl, rfl⟩) rfl ⟨rfl, rfl⟩ hM.1 (by decide) e_11 ?_
      refine z_aload_n (n := 39) dX7_land_38 rfl 0 rfl rfl ?_
      refine z_iconst (n := 40) (v := 0) dX7_land_39 rfl (by decide) ?_
      obtain ⟨I_12, e_13, hF⟩ := zlet_ob hF
      refine z_putIE (n := 43) dX7_land_40 rfl zok6 fX7_199_6 (Or.inl ⟨_, rfl, rfl⟩) rfl ⟨rfl, rfl⟩ hM.1 (by decide) e_13 ?_
      refine z_aload_n (n := 44) dX7_land_43 rfl 0 rfl rfl ?_
      refine z_iconst (n := 45) (v := (-1)) dX7_land_44 rfl (by decide) ?_
      obtain ⟨I_14, e_15, hF⟩ := zlet_ob hF
      refine z_putIE (n := 48) dX7_land_45 rfl zok6 fX7_68_6 (Or.inl ⟨_, rfl, rfl⟩) rfl ⟨rfl, rfl⟩ hM.1 (by decide) e_15 ?_
      refine z_iconst (n := 49) (v := 0) dX7_land_48 rfl (by decide) ?_
      refine z_istore_nE (n := 50) (lv' := [(2, .int 0), (0, .ref 1860), (1, .int a0)]) dX7_land_49 rfl rfl rfl (by decide) rfl ?_
      refine z_sub [1, 0] rfl ?_
      obtain ⟨t_68, e_67, hF⟩ := zb1_some hF
      obtain ⟨I_38, rfl⟩ : ∃ z, z = t_68 := ⟨_, rfl⟩
      have H_69 : zW l G MX7_land 706 15404 0 0 101 [(0, .ref 1860)] [] K F I_38 L (zQe (.inl (some (.int r.1))) K F r.2 L) := by
        refine z_iconst (n := 102) (v := 0) dX7_land_101 rfl (by decide) ?_
        refine z_istore_nE (n := 103) (lv' := [(2, .int 0), (0, .ref 1860)]) dX7_land_102 rfl rfl rfl (by decide) rfl ?_
        refine z_sub [1, 0] rfl ?_
        obtain ⟨t_65, e_64, hF⟩ := zb1_some hF
        obtain ⟨I_46, rfl⟩ : ∃ z, z = t_65 := ⟨_, rfl⟩
        have H_66 : zW l G MX7_land 706 15404 0 0 125 [(0, .ref 1860)] [] K F I_46 L (zQe (.inl (some (.int r.1))) K F r.2 L) := by
          refine z_aload_n (n := 126) dX7_land_125 rfl 0 rfl rfl ?_
          obtain ⟨I_48, c_47, hF⟩ := zb1_some hF
          refine z_cV (n := 129) (st := []) (C_X7_stepOn htr hM c_47) dX7_land_126 rfl (lw_V q1883 q1885 qs49 q131 q1886) hcee_X7_stepOn rfl (by decide) hM.1 rfl rfl rfl (Nat.le_of_ble_eq_true rfl) (Nat.le_refl _) (Nat.le_refl _) ?_
          refine z_iconst (n := 130) (v := 0) dX7_land_129 rfl (by decide) ?_
          refine z_istore_nE (n := 131) (lv' := [(2, .int 0), (0, .ref 1860)]) dX7_land_130 rfl rfl rfl (by decide) rfl ?_
          refine z_sub [1, 0] rfl ?_
          obtain ⟨t_62, e_61, hF⟩ := zb1_some hF
          obtain ⟨I_54, rfl⟩ : ∃ z, z = t_62 := ⟨_, rfl⟩
          have H_63 : zW l G MX7_land 706 15404 0 0 154 [(0, .ref 1860)] [] K F I_54 L (zQe (.inl (some (.int r.1))) K F r.2 L) := by
            refine z_aload_n (n := 155) dX7_land_154 rfl 0 rfl rfl ?_
            refine z_getI (n := 158) dX7_land_155 rfl zok6 fX7_199_6 rfl hM.1 (Or.inl (by decide)) ?_
            refine z_if_eq (n := 161) (t := 184) dX7_land_158 rfl (by decide) (fun hc => ?_) (fun hc => ?_)
            · replace hF := (if_pos hc).symm.trans hF
              refine z_aload_n (n := 185) dX7_land_184 rfl 0 rfl rfl ?_
              obtain ⟨I_56, c_55, hF⟩ := zb1_some hF
              refine z_cV (n := 188) (st := []) (C_X7_takeOver htr hM c_55) dX7_land_185 rfl (lw_V q2003 q2005 qs73 q131 q2006) hcee_X7_takeOver rfl (by decide) hM.1 rfl rfl rfl (Nat.le_of_ble_eq_true rfl) (Nat.le_refl _) (Nat.le_refl _) ?_
              refine z_iconst (n := 189) (v := 0) dX7_land_188 rfl (by decide) ?_
              have hF := Option.some.inj hF; subst hF
              exact z_iret dX7_land_189 rfl rfl ⟨rfl, rfl, rfl, rfl, rfl⟩
            · replace hF := (if_neg hc).symm.trans hF
              refine z_aload_n (n := 162) dX7_land_161 rfl 0 rfl rfl ?_
              refine z_aload_n (n := 163) dX7_land_162 rfl 0 rfl rfl ?_
              refine z_getI (n := 166) dX7_land_163 rfl zok6 fX7_202_6 rfl hM.1 (Or.inl (by decide)) ?_
              obtain ⟨I_57, e_58, hF⟩ := zlet_ob hF
              refine z_putIE (n := 169) dX7_land_166 rfl zok6 fX7_68_6 (Or.inl ⟨_, rfl, rfl⟩) rfl ⟨rfl, rfl⟩ hM.1 (by decide) e_58 ?_
              refine z_aload_n (n := 170) dX7_land_169 rfl 0 rfl rfl ?_
              refine z_getRS (n := 173) dX7_land_170 rfl zok6 fX7_62_6 rfl hM.1 (Or.inl (by decide)) (mF_13 hM) ?_
              refine z_iconst (n := 174) (v := 0) dX7_land_173 rfl (by decide) ?_
              refine z_dup2 (n := 175) dX7_land_174 rfl rfl rfl ?_
              refine z_ialdK (n := 176) 0 (by decide) dX7_land_175 rfl (mK_13 hM) (zin_ok (i := 0) (n := 3) rfl) ?_
              refine z_iconst (n := 177) (v := 1) dX7_land_176 rfl (by decide) ?_
              refine z_iadd (n := 178) dX7_land_177 rfl ?_
              obtain ⟨I_59, e_60, hF⟩ := zlet_ob hF
              refine z_iastK (n := 179) 0 (by decide) dX7_land_178 rfl (mK_13 hM) (by decide) (zin_ok (i := 0) (n := 3) rfl) e_60 ?_
              refine z_aload_n (n := 180) dX7_land_179 rfl 0 rfl rfl ?_
              refine z_getI (n := 183) dX7_land_180 rfl zok6 fX7_199_6 rfl hM.1 (Or.inl (by decide)) ?_
              have hF := Option.some.inj hF; subst hF
              exact z_iret dX7_land_183 rfl rfl ⟨rfl, rfl, rfl, rfl, rfl⟩
          refine zloop_ind (P := fun s : Int32 × zId => zW l G MX7_land 706 15404 0 0 131 [(0, .ref 1860), (2, .int s.1)] [] K F s.2 L (zQe (.inl (some (.int r.1))) K F r.2 L)) (fun s r hb kl kr => ?_) e_61
          exact W_X7_land_L131 (a0 := a0) htr hM hb (fun z0 z1 e => kl _ e) (fun y0 e => by cases kr _ e; exact H_63)
        refine zloop_ind (P := fun s : Int32 × zId => zW l G MX7_land 706 15404 0 0 103 [(0, .ref 1860), (2, .int s.1)] [] K F s.2 L (zQe (.inl (some (.int r.1))) K F r.2 L)) (fun s r hb kl kr => ?_) e_64
        exact W_X7_land_L103 (a0 := a0) htr hM hb (fun z0 z1 e => kl _ e) (fun y0 e => by cases kr _ e; exact H_66)
      refine zloop_ind (P := fun s : Int32 × zId => zW l G MX7_land 706 15404 0 0 50 [(0, .ref 1860), (2, .int s.1)] [] K F s.2 L (zQe (.inl (some (.int r.1))) K F r.2 L)) (fun s r hb kl kr => ?_) e_67
      exact W_X7_land_L50 (a0 := a0) htr hM hb (fun z0 z1 e => kl _ e) (fun y0 e => by cases kr _ e; exact H_69)
    · replace hF := (if_neg hc).symm.trans hF
      refine z_aload_n (n := 18) dX7_land_17 rfl 0 rfl rfl ?_
      refine z_iconst (n := 19) (v := 1) dX7_land_18 rfl (by decide) ?_
      obtain ⟨x_71, I_72, c_70, hF⟩ := zb2_some hF
      refine z_cV (n := 22) (st := []) (C_X7_fail htr hM c_70) dX7_land_19 rfl (lw_V q1879 q1881 qs48 q131 q1882) hcee_X7_fail rfl (by decide) hM.1 rfl rfl rfl (Nat.le_of_ble_eq_true rfl) (Nat.le_refl _) (Nat.le_refl _) ?_
      have hF := Option.some.inj hF; subst hF
      exact z_iret dX7_land_22 rfl rfl ⟨rfl, rfl, rfl, rfl, rfl⟩
