theorem fX7_150 : zFld RX7 150 6 1 := ⟨_, rfl, by decide, _, Or.inl q1678, Or.inl rfl⟩
abbrev MX7_thrown : zM := (RX7, cX7_thrown, 1, (some .int), "thrown", [])
noncomputable def F_X7_thrown (I : zId) : Option (Int32) := some (I 1860 1)
set_option maxHeartbeats 1000000 in
theorem C_X7_thrown {l : Launch} {G : zGt} (htr : l.stackTraces = false) {K : zKd} {F : zFd} {L : zLd} (hM : zMLay K F) {I : zId} {r : Int32} (hF : F_X7_thrown I = some r) : zMet l G yX7_thrown (ws_ yX7_thrown cX7_thrown 1 (some .int)) 0 0 0 0 [.ref 1860] K F I L (zQe (.inl (some (.int r))) K F I L) := by
  refine zMet.of (by decide +kernel) htr (Nat.le_of_ble_eq_true rfl) ?_
  change zW l G MX7_thrown 0 0 0 0 0 [(0, .ref 1860)] [] K F I L (zQe (.inl (some (.int r))) K F I L)
  unfold F_X7_thrown at hF
  refine z_aload_n (n := 1) dX7_thrown_0 rfl 0 rfl rfl ?_
  refine z_getI (n := 4) dX7_thrown_1 rfl zok6 fX7_150 rfl hM.1 (Or.inl (by decide)) ?_
  have hF := Option.some.inj hF; subst hF
  exact z_iret dX7_thrown_4 rfl rfl ⟨rfl, rfl, rfl, rfl, rfl⟩
theorem fX7_65 : zFld RX7 65 6 14 := ⟨_, rfl, by decide, _, Or.inl q1691, Or.inl rfl⟩
theorem fX7_157 : zFld RX7 157 6 15 := ⟨_, rfl, by decide, _, Or.inl q1692, Or.inl rfl⟩
abbrev MX7_feed : zM := (RX7, cX7_feed, 8, (some .int), "feed", [])
noncomputable def F_X7_feed_L23 (a0 : Int32) (a1 : Int32) (a2 : Int32) (a3 : Int32) (a4 : Int32) (v6_3 : Int32) (I_4 : zId) : Option ((Int32 × zId) ⊕ (zId)) := if 20 ≤ v6_3 then some (.inr (I_4)) else zlet (fun (w_5 : Int32) => zg (zin (I_4 1860 15) 700) (zlet (zu I_4 1874 ((I_4 1860 15).toNatClampNeg) ((w_5 >>> (((24 : Int32) - ((8 : Int32) * (v6_3 - v6_3 / 4 * 4))) &&& (31 : Int32))) &&& (255 : Int32))) (fun I_10 => zlet (zu I_10 1860 15 ((I_10 1860 15) + 1)) (fun I_12 => zlet (v6_3 + 1) (fun v6_14 => some (.inl (v6_14, I_12))))))) (fun k_6 => if 4 ≤ v6_3 then if 8 ≤ v6_3 then if 12 ≤ v6_3 then if 16 ≤ v6_3 then k_6 a4 else k_6 a3 else k_6 a2 else k_6 a1 else k_6 a0)
noncomputable def F_X7_feed (a0 : Int32) (a1 : Int32) (a2 : Int32) (a3 : Int32) (a4 : Int32) (I : zId) : Option (Int32 × zId) := zlet (zu I 1860 1 0) (fun I_1 => if ((I_1 1860 15) + 20) ≤ 700 then zb1 (zloop (fun s : Int32 × zId => F_X7_feed_L23 a0 a1 a2 a3 a4 s.1 s.2) (0, I_1)) (fun I_16 => some (I_16 1860 15, I_16)) else some ((-1), I_1))
set_option maxHeartbeats 1000000 in
theorem W_X7_feed_L23 {l : Launch} {G : zGt} (htr : l.stackTraces = false) {K : zKd} {F : zFd} {L : zLd} {Q : zQt} {a0 : Int32} {a1 : Int32} {a2 : Int32} {a3 : Int32} {a4 : Int32} {v6_3 : Int32} {I_4 : zId} (hM : zMLay K F) {r : (Int32 × zId) ⊕ (zId)} (hF : F_X7_feed_L23 a0 a1 a2 a3 a4 v6_3 I_4 = some r) (kl : ∀ (z0 : Int32) (z1 : zId), r = .inl (z0, z1) → zW l G MX7_feed 0 0 0 0 23 [(0, .ref 1860), (1, .int a0), (2, .int a1), (3, .int a2), (4, .int a3), (5, .int a4), (6, .int z0)] [] K F z1 L Q) (kx : ∀ (y0 : zId), r = .inr y0 → zW l G MX7_feed 0 0 0 0 120 [(0, .ref 1860)] [] K F y0 L Q)  : zW l G MX7_feed 0 0 0 0 23 [(0, .ref 1860), (1, .int a0), (2, .int a1), (3, .int a2), (4, .int a3), (5, .int a4), (6, .int v6_3)] [] K F I_4 L Q := by
  unfold F_X7_feed_L23 at hF
  refine z_iload (n := 25) dX7_feed_23 rfl 6 rfl ?_
  refine z_bipush (n := 27) (v := 20) dX7_feed_25 rfl (by decide) ?_
  refine z_icmp_ge (n := 30) (t := 120) dX7_feed_27 rfl (by decide) (fun hc => ?_) (fun hc => ?_)
  · replace hF := (if_pos hc).symm.trans hF
    refine z_sub [0] rfl ?_
    have hF := Option.some.inj hF; subst hF
    exact kx _ rfl
  · replace hF := (if_neg hc).symm.trans hF
    refine z_iload (n := 32) dX7_feed_30 rfl 6 rfl ?_
    refine z_iconst (n := 33) (v := 4) dX7_feed_32 rfl (by decide) ?_
    obtain ⟨k_6, e_7, hF⟩ := zlet_ob hF
    have H_8 : ∀ (w_5 : Int32), k_6 w_5 = some r → zW l G MX7_feed 0 0 0 0 76 [(0, .ref 1860), (1, .int a0), (2, .int a1), (3, .int a2), (4, .int a3), (5, .int a4), (6, .int v6_3)] [.int w_5] K F I_4 L Q := by
      intro w_5 hF
      subst e_7
      dsimp only at hF
      refine z_istoreE (n := 78) (lv' := [(7, .int w_5), (0, .ref 1860), (1, .int a0), (2, .int a1), (3, .int a2), (4, .int a3), (5, .int a4), (6, .int v6_3)]) dX7_feed_76 rfl rfl (by decide) rfl ?_
      refine z_aload_n (n := 79) dX7_feed_78 rfl 1 rfl rfl ?_
      refine z_getRS (n := 82) dX7_feed_79 rfl zok6 fX7_65 rfl hM.1 (Or.inl (by decide)) (mF_14 hM) ?_
      refine z_aload_n (n := 83) dX7_feed_82 rfl 1 rfl rfl ?_
      refine z_getI (n := 86) dX7_feed_83 rfl zok6 fX7_157 rfl hM.1 (Or.inl (by decide)) ?_
      refine z_iload (n := 88) dX7_feed_86 rfl 0 rfl ?_
      refine z_bipush (n := 90) (v := 24) dX7_feed_88 rfl (by decide) ?_
      refine z_bipush (n := 92) (v := 8) dX7_feed_90 rfl (by decide) ?_
      refine z_iload (n := 94) dX7_feed_92 rfl 7 rfl ?_
      refine z_iconst (n := 95) (v := 4) dX7_feed_94 rfl (by decide) ?_
      refine z_irem (n := 96) dX7_feed_95 rfl (by decide) ?_
      refine z_imul (n := 97) dX7_feed_96 rfl ?_
      refine z_isub (n := 98) dX7_feed_97 rfl ?_
      refine z_ishr (n := 99) dX7_feed_98 rfl ?_
      refine z_sipush (n := 102) (v := 255) dX7_feed_99 rfl (by decide) ?_
      refine z_iand (n := 103) dX7_feed_102 rfl ?_
      obtain ⟨h_9, hF⟩ := zg_some hF
      obtain ⟨I_10, e_11, hF⟩ := zlet_ob hF
      refine z_iastK (n := 104) ((I_4 1860 15).toNatClampNeg) rfl dX7_feed_103 rfl (mK_14 hM) (by decide) (zin_ok h_9) e_11 ?_
      refine z_aload_n (n := 105) dX7_feed_104 rfl 1 rfl rfl ?_
      refine z_dup (n := 106) dX7_feed_105 rfl rfl ?_
      refine z_getI (n := 109) dX7_feed_106 rfl zok6 fX7_157 rfl hM.1 (Or.inl (by decide)) ?_
      refine z_iconst (n := 110) (v := 1) dX7_feed_109 rfl (by decide) ?_
      refine z_iadd (n := 111) dX7_feed_110 rfl ?_
      obtain ⟨I_12, e_13, hF⟩ := zlet_ob hF
      refine z_putIE (n := 114) dX7_feed_111 rfl zok6 fX7_157 (Or.inl ⟨_, rfl, rfl⟩) rfl ⟨rfl, rfl⟩ hM.1 (by decide) e_13 ?_
      obtain ⟨v6_14, e_15, hF⟩ := zlet_ob hF
      refine z_iincE (n := 117) (w := 1) (v := v6_14) (lv' := [(6, .int v6_14), (7, .int w_5), (0, .ref 1860), (1, .int a0), (2, .int a1), (3, .int a2), (4, .int a3), (5, .int a4)]) dX7_feed_114 rfl 7 rfl (by decide) e_15 (by decide) rfl ?_
      refine z_goto (t := 23) dX7_feed_117 (by decide) ?_
      refine z_sub [2, 3, 4, 5, 6, 7, 0] rfl ?_
      have hF := Option.some.inj hF; subst hF
      exact kl _ _ rfl
    clear e_7
    refine z_icmp_ge (n := 36) (t := 40) dX7_feed_33 rfl (by decide) (fun hc => ?_) (fun hc => ?_)
    · replace hF := (if_pos hc).symm.trans hF
      refine z_iload (n := 42) dX7_feed_40 rfl 6 rfl ?_
      refine z_bipush (n := 44) (v := 8) dX7_feed_42 rfl (by decide) ?_
      refine z_icmp_ge (n := 47) (t := 51) dX7_feed_44 rfl (by decide) (fun hc => ?_) (fun hc => ?_)
      · replace hF := (if_pos hc).symm.trans hF
        refine z_iload (n := 53) dX7_feed_51 rfl 6 rfl ?_
        refine z_bipush (n := 55) (v := 12) dX7_feed_53 rfl (by decide) ?_
        refine z_icmp_ge (n := 58) (t := 62) dX7_feed_55 rfl (by decide) (fun hc => ?_) (fun hc => ?_)
        · replace hF := (if_pos hc).symm.trans hF
          refine z_iload (n := 64) dX7_feed_62 rfl 6 rfl ?_
          refine z_bipush (n := 66) (v := 16) dX7_feed_64 rfl (by decide) ?_
          refine z_icmp_ge (n := 69) (t := 74) dX7_feed_66 rfl (by decide) (fun hc => ?_) (fun hc => ?_)
          · replace hF := (if_pos hc).symm.trans hF
            refine z_iload (n := 76) dX7_feed_74 rfl 5 rfl ?_
            exact H_8 _ hF
          · replace hF := (if_neg hc).symm.trans hF
            refine z_iload (n := 71) dX7_feed_69 rfl 4 rfl ?_
            refine z_goto (t := 76) dX7_feed_71 (by decide) ?_
            exact H_8 _ hF
        · replace hF := (if_neg hc).symm.trans hF
          refine z_iload_n (n := 59) dX7_feed_58 rfl 3 rfl rfl ?_
          refine z_goto (t := 76) dX7_feed_59 (by decide) ?_
          exact H_8 _ hF
      · replace hF := (if_neg hc).symm.trans hF
        refine z_iload_n (n := 48) dX7_feed_47 rfl 2 rfl rfl ?_
        refine z_goto (t := 76) dX7_feed_48 (by decide) ?_
        exact H_8 _ hF
    · replace hF := (if_neg hc).symm.trans hF
      refine z_iload_n (n := 37) dX7_feed_36 rfl 1 rfl rfl ?_
      refine z_goto (t := 76) dX7_feed_37 (by decide) ?_
      exact H_8 _ hF
set_option maxHeartbeats 1000000 in
theorem C_X7_feed {l : Launch} {G : zGt} (htr : l.stackTraces = false) {K : zKd} {F : zFd} {L : zLd} {a0 : Int32} {a1 : Int32} {a2 : Int32} {a3 : Int32} {a4 : Int32} (hM : zMLay K F) {I : zId} {r : Int32 × zId} (hF : F_X7_feed a0 a1 a2 a3 a4 I = some r) : zMet l G yX7_feed (ws_ yX7_feed cX7_feed 8 (some .int)) 0 0 0 0 [.ref 1860, .int a0, .int a1, .int a2, .int a3, .int a4] K F I L (zQe (.inl (some (.int r.1))) K F r.2 L) := by
  refine zMet.of (by decide +kernel) htr (Nat.le_of_ble_eq_true rfl) ?_
  change zW l G MX7_feed 0 0 0 0 0 [(0, .ref 1860), (1, .int a0), (2, .int a1), (3, .int a2), (4, .int a3), (5, .int a4)] [] K F I L (zQe (.inl (some (.int r.1))) K F r.2 L)
  unfold F_X7_feed at hF
  refine z_aload_n (n := 1) dX7_feed_0 rfl 0 rfl rfl ?_
  refine z_iconst (n := 2) (v := 0) dX7_feed_1 rfl (by decide) ?_
  obtain ⟨I_1, e_2, hF⟩ := zlet_ob hF
  refine z_putIE (n := 5) dX7_feed_2 rfl zok6 fX7_150 (Or.inl ⟨_, rfl, rfl⟩) rfl ⟨rfl, rfl⟩ hM.1 (by decide) e_2 ?_
  refine z_aload_n (n := 6) dX7_feed_5 rfl 0 rfl rfl ?_
  refine z_getI (n := 9) dX7_feed_6 rfl zok6 fX7_157 rfl hM.1 (Or.inl (by decide)) ?_
  refine z_bipush (n := 11) (v := 20) dX7_feed_9 rfl (by decide) ?_
  refine z_iadd (n := 12) dX7_feed_11 rfl ?_
  refine z_sipush (n := 15) (v := 700) dX7_feed_12 rfl (by decide) ?_
  refine z_icmp_le (n := 18) (t := 20) dX7_feed_15 rfl (by decide) (fun hc => ?_) (fun hc => ?_)
  · replace hF := (if_pos hc).symm.trans hF
    refine z_iconst (n := 21) (v := 0) dX7_feed_20 rfl (by decide) ?_
    refine z_istoreE (n := 23) (lv' := [(6, .int 0), (0, .ref 1860), (1, .int a0), (2, .int a1), (3, .int a2), (4, .int a3), (5, .int a4)]) dX7_feed_21 rfl rfl (by decide) rfl ?_
    refine z_sub [1, 2, 3, 4, 5, 6, 0] rfl ?_
    obtain ⟨t_18, e_17, hF⟩ := zb1_some hF
    obtain ⟨I_16, rfl⟩ : ∃ z, z = t_18 := ⟨_, rfl⟩
    have H_19 : zW l G MX7_feed 0 0 0 0 120 [(0, .ref 1860)] [] K F I_16 L (zQe (.inl (some (.int r.1))) K F r.2 L) := by
      refine z_aload_n (n := 121) dX7_feed_120 rfl 0 rfl rfl ?_
      refine z_getI (n := 124) dX7_feed_121 rfl zok6 fX7_157 rfl hM.1 (Or.inl (by decide)) ?_
      have hF := Option.some.inj hF; subst hF
      exact z_iret dX7_feed_124 rfl rfl ⟨rfl, rfl, rfl, rfl, rfl⟩
    refine zloop_ind (P := fun s : Int32 × zId => zW l G MX7_feed 0 0 0 0 23 [(0, .ref 1860), (1, .int a0), (2, .int a1), (3, .int a2), (4, .int a3), (5, .int a4), (6, .int s.1)] [] K F s.2 L (zQe (.inl (some (.int r.1))) K F r.2 L)) (fun s r hb kl kr => ?_) e_17
    exact W_X7_feed_L23 (a0 := a0) (a1 := a1) (a2 := a2) (a3 := a3) (a4 := a4) htr hM hb (fun z0 z1 e => kl _ e) (fun y0 e => by cases kr _ e; exact H_19)
  · replace hF := (if_neg hc).symm.trans hF
    refine z_iconst (n := 19) (v := (-1)) dX7_feed_18 rfl (by decide) ?_
    have hF := Option.some.inj hF; subst hF
    exact z_iret dX7_feed_19 rfl rfl ⟨rfl, rfl, rfl, rfl, rfl⟩
abbrev MX7_fail : zM := (RX7, cX7_fail, 2, (some .int), "fail", [])
noncomputable def F_X7_fail (a0 : Int32) (I : zId) : Option (Int32 × zId) := zlet (zu I 1860 1 a0) (fun I_1 => some (0, I_1))
set_option maxHeartbeats 1000000 in
theorem C_X7_fail {l : Launch} {G : zGt} (htr : l.stackTraces = false) {K : zKd} {F : zFd} {L : zLd} {a0 : Int32} (hM : zMLay K F) {I : zId} {r : Int32 × zId} (hF : F_X7_fail a0 I = some r) : zMet l G yX7_fail (ws_ yX7_fail cX7_fail 2 (some .int)) 0 0 0 0 [.ref 1860, .int a0] K F I L (zQe (.inl (some (.int r.1))) K F r.2 L) := by
  refine zMet.of (by decide +kernel) htr (Nat.le_of_ble_eq_true rfl) ?_
  change zW l G MX7_fail 0 0 0 0 0 [(0, .ref 1860), (1, .int a0)] [] K F I L (zQe (.inl (some (.int r.1))) K F r.2 L)
  unfold F_X7_fail at hF
  refine z_aload_n (n := 1) dX7_fail_0 rfl 0 rfl rfl ?_
  refine z_iload_n (n := 2) dX7_fail_1 rfl 1 rfl rfl ?_
  obtain ⟨I_1, e_2, hF⟩ := zlet_ob hF
  refine z_putIE (n := 5) dX7_fail_2 rfl zok6 fX7_150 (Or.inl ⟨_, rfl, rfl⟩) rfl ⟨rfl, rfl⟩ hM.1 (by decide) e_2 ?_
  refine z_iconst (n := 6) (v := 0) dX7_fail_5 rfl (by decide) ?_
  have hF := Option.some.inj hF; subst hF
  exact z_iret dX7_fail_6 rfl rfl ⟨rfl, rfl, rfl, rfl, rfl⟩
theorem fX7_160 : zFld RX7 160 6 17 := ⟨_, rfl, by decide, _, Or.inl q1694, Or.inl rfl⟩
abbrev MX7_byteAt : zM := (RX7, cX7_byteAt, 2, (some .int), "byteAt", [])
noncomputable def F_X7_byteAt (a0 : Int32) (I : zId) : Option (Int32) := if (I 1860 17) ≤ a0 then some (-1) else zg (zin a0 700) (some (I 1874 a0.toNatClampNeg))
set_option maxHeartbeats 1000000 in
theorem C_X7_byteAt {l : Launch} {G : zGt} (htr : l.stackTraces = false) {K : zKd} {F : zFd} {L : zLd} {a0 : Int32} (hM : zMLay K F) {I : zId} {r : Int32} (hF : F_X7_byteAt a0 I = some r) : zMet l G yX7_byteAt (ws_ yX7_byteAt cX7_byteAt 2 (some .int)) 0 0 0 0 [.ref 1860, .int a0] K F I L (zQe (.inl (some (.int r))) K F I L) := by
  refine zMet.of (by decide +kernel) htr (Nat.le_of_ble_eq_true rfl) ?_
  change zW l G MX7_byteAt 0 0 0 0 0 [(0, .ref 1860), (1, .int a0)] [] K F I L (zQe (.inl (some (.int r))) K F I L)
  unfold F_X7_byteAt at hF
  refine z_iload_n (n := 1) dX7_byteAt_0 rfl 1 rfl rfl ?_
  refine z_aload_n (n := 2) dX7_byteAt_1 rfl 0 rfl rfl ?_
  refine z_getI (n := 5) dX7_byteAt_2 rfl zok6 fX7_160 rfl hM.1 (Or.inl (by decide)) ?_
  refine z_icmp_ge (n := 8) (t := 17) dX7_byteAt_5 rfl (by decide) (fun hc => ?_) (fun hc => ?_)
  · replace hF := (if_pos hc).symm.trans hF
    refine z_iconst (n := 18) (v := (-1)) dX7_byteAt_17 rfl (by decide) ?_
    have hF := Option.some.inj hF; subst hF
    exact z_iret dX7_byteAt_18 rfl rfl ⟨rfl, rfl, rfl, rfl, rfl⟩
  · replace hF := (if_neg hc).symm.trans hF
    refine z_aload_n (n := 9) dX7_byteAt_8 rfl 0 rfl rfl ?_
    refine z_getRS (n := 12) dX7_byteAt_9 rfl zok6 fX7_65 rfl hM.1 (Or.inl (by decide)) (mF_14 hM) ?_
    refine z_iload_n (n := 13) dX7_byteAt_12 rfl 1 rfl rfl ?_
    obtain ⟨h_1, hF⟩ := zg_some hF
    refine z_ialdK (n := 14) a0.toNatClampNeg rfl dX7_byteAt_13 rfl (mK_14 hM) (zin_ok h_1) ?_
    refine z_goto (t := 18) dX7_byteAt_14 (by decide) ?_
    have hF := Option.some.inj hF; subst hF
    exact z_iret dX7_byteAt_18 rfl rfl ⟨rfl, rfl, rfl, rfl, rfl⟩
abbrev MX7_isLetter : zM := (RX7, cX7_isLetter, 1, (some .boolean), "isLetter", [])
noncomputable def F_X7_isLetter (a0 : Int32) (I : zId) : Option (Int32) := if a0 < 97 then some 0 else if 122 < a0 then some 0 else some 1
set_option maxHeartbeats 1000000 in
theorem C_X7_isLetter {l : Launch} {G : zGt} (htr : l.stackTraces = false) {K : zKd} {F : zFd} {L : zLd} {a0 : Int32} {I : zId} {r : Int32} (hF : F_X7_isLetter a0 I = some r) : zMet l G yX7_isLetter (ws_ yX7_isLetter cX7_isLetter 1 (some .boolean)) 0 0 0 0 [.int a0] K F I L (zQe (.inl (some (.int r))) K F I L) := by
  refine zMet.of (by decide +kernel) htr (Nat.le_of_ble_eq_true rfl) ?_
  change zW l G MX7_isLetter 0 0 0 0 0 [(0, .int a0)] [] K F I L (zQe (.inl (some (.int r))) K F I L)
  unfold F_X7_isLetter at hF
  refine z_iload_n (n := 1) dX7_isLetter_0 rfl 0 rfl rfl ?_
  refine z_bipush (n := 3) (v := 97) dX7_isLetter_1 rfl (by decide) ?_
  refine z_icmp_lt (n := 6) (t := 16) dX7_isLetter_3 rfl (by decide) (fun hc => ?_) (fun hc => ?_)
  · replace hF := (if_pos hc).symm.trans hF
    refine z_iconst (n := 17) (v := 0) dX7_isLetter_16 rfl (by decide) ?_
    have hF := Option.some.inj hF; subst hF
    exact z_iret dX7_isLetter_17 rfl rfl ⟨rfl, rfl, rfl, rfl, rfl⟩
  · replace hF := (if_neg hc).symm.trans hF
    refine z_iload_n (n := 7) dX7_isLetter_6 rfl 0 rfl rfl ?_
    refine z_bipush (n := 9) (v := 122) dX7_isLetter_7 rfl (by decide) ?_
    refine z_icmp_gt (n := 12) (t := 16) dX7_isLetter_9 rfl (by decide) (fun hc => ?_) (fun hc => ?_)
    · replace hF := (if_pos hc).symm.trans hF
      refine z_iconst (n := 17) (v := 0) dX7_isLetter_16 rfl (by decide) ?_
      have hF := Option.some.inj hF; subst hF
      exact z_iret dX7_isLetter_17 rfl rfl ⟨rfl, rfl, rfl, rfl, rfl⟩
    · replace hF := (if_neg hc).symm.trans hF
      refine z_iconst (n := 13) (v := 1) dX7_isLetter_12 rfl (by decide) ?_
      refine z_goto (t := 17) dX7_isLetter_13 (by decide) ?_
      have hF := Option.some.inj hF; subst hF
      exact z_iret dX7_isLetter_17 rfl rfl ⟨rfl, rfl, rfl, rfl, rfl⟩
abbrev MX7_isDigit : zM := (RX7, cX7_isDigit, 1, (some .boolean), "isDigit", [])
noncomputable def F_X7_isDigit (a0 : Int32) (I : zId) : Option (Int32) := if a0 < 48 then some 0 else if 57 < a0 then some 0 else some 1
set_option maxHeartbeats 1000000 in
theorem C_X7_isDigit {l : Launch} {G : zGt} (htr : l.stackTraces = false) {K : zKd} {F : zFd} {L : zLd} {a0 : Int32} {I : zId} {r : Int32} (hF : F_X7_isDigit a0 I = some r) : zMet l G yX7_isDigit (ws_ yX7_isDigit cX7_isDigit 1 (some .boolean)) 0 0 0 0 [.int a0] K F I L (zQe (.inl (some (.int r))) K F I L) := by
  refine zMet.of (by decide +kernel) htr (Nat.le_of_ble_eq_true rfl) ?_
  change zW l G MX7_isDigit 0 0 0 0 0 [(0, .int a0)] [] K F I L (zQe (.inl (some (.int r))) K F I L)
  unfold F_X7_isDigit at hF
  refine z_iload_n (n := 1) dX7_isDigit_0 rfl 0 rfl rfl ?_
  refine z_bipush (n := 3) (v := 48) dX7_isDigit_1 rfl (by decide) ?_
  refine z_icmp_lt (n := 6) (t := 16) dX7_isDigit_3 rfl (by decide) (fun hc => ?_) (fun hc => ?_)
  · replace hF := (if_pos hc).symm.trans hF
    refine z_iconst (n := 17) (v := 0) dX7_isDigit_16 rfl (by decide) ?_
    have hF := Option.some.inj hF; subst hF
    exact z_iret dX7_isDigit_17 rfl rfl ⟨rfl, rfl, rfl, rfl, rfl⟩
  · replace hF := (if_neg hc).symm.trans hF
    refine z_iload_n (n := 7) dX7_isDigit_6 rfl 0 rfl rfl ?_
    refine z_bipush (n := 9) (v := 57) dX7_isDigit_7 rfl (by decide) ?_
    refine z_icmp_gt (n := 12) (t := 16) dX7_isDigit_9 rfl (by decide) (fun hc => ?_) (fun hc => ?_)
    · replace hF := (if_pos hc).symm.trans hF
      refine z_iconst (n := 17) (v := 0) dX7_isDigit_16 rfl (by decide) ?_
      have hF := Option.some.inj hF; subst hF
      exact z_iret dX7_isDigit_17 rfl rfl ⟨rfl, rfl, rfl, rfl, rfl⟩
    · replace hF := (if_neg hc).symm.trans hF
      refine z_iconst (n := 13) (v := 1) dX7_isDigit_12 rfl (by decide) ?_
      refine z_goto (t := 17) dX7_isDigit_13 (by decide) ?_
      have hF := Option.some.inj hF; subst hF
      exact z_iret dX7_isDigit_17 rfl rfl ⟨rfl, rfl, rfl, rfl, rfl⟩
abbrev MX7_isMark : zM := (RX7, cX7_isMark, 1, (some .boolean), "isMark", [])
noncomputable def F_X7_isMark (a0 : Int32) (I : zId) : Option (Int32) := if a0 = 59 then some 1 else if a0 = 40 then some 1 else if a0 = 41 then some 1 else if a0 = 43 then some 1 else if a0 = 45 then some 1 else if a0 = 42 then some 1 else if a0 = 47 then some 1 else if a0 = 60 then some 1 else if ¬ a0 = 61 then some 0 else some 1
set_option maxHeartbeats 1000000 in
theorem C_X7_isMark {l : Launch} {G : zGt} (htr : l.stackTraces = false) {K : zKd} {F : zFd} {L : zLd} {a0 : Int32} {I : zId} {r : Int32} (hF : F_X7_isMark a0 I = some r) : zMet l G yX7_isMark (ws_ yX7_isMark cX7_isMark 1 (some .boolean)) 0 0 0 0 [.int a0] K F I L (zQe (.inl (some (.int r))) K F I L) := by
  refine zMet.of (by decide +kernel) htr (Nat.le_of_ble_eq_true rfl) ?_
  change zW l G MX7_isMark 0 0 0 0 0 [(0, .int a0)] [] K F I L (zQe (.inl (some (.int r))) K F I L)
  unfold F_X7_isMark at hF
  refine z_iload_n (n := 1) dX7_isMark_0 rfl 0 rfl rfl ?_
  refine z_bipush (n := 3) (v := 59) dX7_isMark_1 rfl (by decide) ?_
  refine z_icmp_eq (n := 6) (t := 54) dX7_isMark_3 rfl (by decide) (fun hc => ?_) (fun hc => ?_)
  · replace hF := (if_pos hc).symm.trans hF
    refine z_iconst (n := 55) (v := 1) dX7_isMark_54 rfl (by decide) ?_
    refine z_goto (t := 59) dX7_isMark_55 (by decide) ?_
    have hF := Option.some.inj hF; subst hF
    exact z_iret dX7_isMark_59 rfl rfl ⟨rfl, rfl, rfl, rfl, rfl⟩
  · replace hF := (if_neg hc).symm.trans hF
    refine z_iload_n (n := 7) dX7_isMark_6 rfl 0 rfl rfl ?_
    refine z_bipush (n := 9) (v := 40) dX7_isMark_7 rfl (by decide) ?_
    refine z_icmp_eq (n := 12) (t := 54) dX7_isMark_9 rfl (by decide) (fun hc => ?_) (fun hc => ?_)
    · replace hF := (if_pos hc).symm.trans hF
      refine z_iconst (n := 55) (v := 1) dX7_isMark_54 rfl (by decide) ?_
      refine z_goto (t := 59) dX7_isMark_55 (by decide) ?_
      have hF := Option.some.inj hF; subst hF
      exact z_iret dX7_isMark_59 rfl rfl ⟨rfl, rfl, rfl, rfl, rfl⟩
    · replace hF := (if_neg hc).symm.trans hF
      refine z_iload_n (n := 13) dX7_isMark_12 rfl 0 rfl rfl ?_
      refine z_bipush (n := 15) (v := 41) dX7_isMark_13 rfl (by decide) ?_
      refine z_icmp_eq (n := 18) (t := 54) dX7_isMark_15 rfl (by decide) (fun hc => ?_) (fun hc => ?_)
      · replace hF := (if_pos hc).symm.trans hF
        refine z_iconst (n := 55) (v := 1) dX7_isMark_54 rfl (by decide) ?_
        refine z_goto (t := 59) dX7_isMark_55 (by decide) ?_
        have hF := Option.some.inj hF; subst hF
        exact z_iret dX7_isMark_59 rfl rfl ⟨rfl, rfl, rfl, rfl, rfl⟩
      · replace hF := (if_neg hc).symm.trans hF
        refine z_iload_n (n := 19) dX7_isMark_18 rfl 0 rfl rfl ?_
        refine z_bipush (n := 21) (v := 43) dX7_isMark_19 rfl (by decide) ?_
        refine z_icmp_eq (n := 24) (t := 54) dX7_isMark_21 rfl (by decide) (fun hc => ?_) (fun hc => ?_)
        · replace hF := (if_pos hc).symm.trans hF
          refine z_iconst (n := 55) (v := 1) dX7_isMark_54 rfl (by decide) ?_
          refine z_goto (t := 59) dX7_isMark_55 (by decide) ?_
          have hF := Option.some.inj hF; subst hF
          exact z_iret dX7_isMark_59 rfl rfl ⟨rfl, rfl, rfl, rfl, rfl⟩
        · replace hF := (if_neg hc).symm.trans hF
          refine z_iload_n (n := 25) dX7_isMark_24 rfl 0 rfl rfl ?_
          refine z_bipush (n := 27) (v := 45) dX7_isMark_25 rfl (by decide) ?_
          refine z_icmp_eq (n := 30) (t := 54) dX7_isMark_27 rfl (by decide) (fun hc => ?_) (fun hc => ?_)
          · replace hF := (if_pos hc).symm.trans hF
            refine z_iconst (n := 55) (v := 1) dX7_isMark_54 rfl (by decide) ?_
            refine z_goto (t := 59) dX7_isMark_55 (by decide) ?_
            have hF := Option.some.inj hF; subst hF
            exact z_iret dX7_isMark_59 rfl rfl ⟨rfl, rfl, rfl, rfl, rfl⟩
          · replace hF := (if_neg hc).symm.trans hF
            refine z_iload_n (n := 31) dX7_isMark_30 rfl 0 rfl rfl ?_
            refine z_bipush (n := 33) (v := 42) dX7_isMark_31 rfl (by decide) ?_
            refine z_icmp_eq (n := 36) (t := 54) dX7_isMark_33 rfl (by decide) (fun hc => ?_) (fun hc => ?_)
            · replace hF := (if_pos hc).symm.trans hF
              refine z_iconst (n := 55) (v := 1) dX7_isMark_54 rfl (by decide) ?_
              refine z_goto (t := 59) dX7_isMark_55 (by decide) ?_
              have hF := Option.some.inj hF; subst hF
              exact z_iret dX7_isMark_59 rfl rfl ⟨rfl, rfl, rfl, rfl, rfl⟩
            · replace hF := (if_neg hc).symm.trans hF
              refine z_iload_n (n := 37) dX7_isMark_36 rfl 0 rfl rfl ?_
              refine z_bipush (n := 39) (v := 47) dX7_isMark_37 rfl (by decide) ?_
              refine z_icmp_eq (n := 42) (t := 54) dX7_isMark_39 rfl (by decide) (fun hc => ?_) (fun hc => ?_)
              · replace hF := (if_pos hc).symm.trans hF
                refine z_iconst (n := 55) (v := 1) dX7_isMark_54 rfl (by decide) ?_
                refine z_goto (t := 59) dX7_isMark_55 (by decide) ?_
                have hF := Option.some.inj hF; subst hF
                exact z_iret dX7_isMark_59 rfl rfl ⟨rfl, rfl, rfl, rfl, rfl⟩
              · replace hF := (if_neg hc).symm.trans hF
                refine z_iload_n (n := 43) dX7_isMark_42 rfl 0 rfl rfl ?_
                refine z_bipush (n := 45) (v := 60) dX7_isMark_43 rfl (by decide) ?_
                refine z_icmp_eq (n := 48) (t := 54) dX7_isMark_45 rfl (by decide) (fun hc => ?_) (fun hc => ?_)
                · replace hF := (if_pos hc).symm.trans hF
                  refine z_iconst (n := 55) (v := 1) dX7_isMark_54 rfl (by decide) ?_
                  refine z_goto (t := 59) dX7_isMark_55 (by decide) ?_
                  have hF := Option.some.inj hF; subst hF
                  exact z_iret dX7_isMark_59 rfl rfl ⟨rfl, rfl, rfl, rfl, rfl⟩
                · replace hF := (if_neg hc).symm.trans hF
                  refine z_iload_n (n := 49) dX7_isMark_48 rfl 0 rfl rfl ?_
                  refine z_bipush (n := 51) (v := 61) dX7_isMark_49 rfl (by decide) ?_
                  refine z_icmp_ne (n := 54) (t := 58) dX7_isMark_51 rfl (by decide) (fun hc => ?_) (fun hc => ?_)
                  · replace hF := (if_pos hc).symm.trans hF
                    refine z_iconst (n := 59) (v := 0) dX7_isMark_58 rfl (by decide) ?_
                    have hF := Option.some.inj hF; subst hF
                    exact z_iret dX7_isMark_59 rfl rfl ⟨rfl, rfl, rfl, rfl, rfl⟩
                  · replace hF := (if_neg hc).symm.trans hF
                    refine z_iconst (n := 55) (v := 1) dX7_isMark_54 rfl (by decide) ?_
                    refine z_goto (t := 59) dX7_isMark_55 (by decide) ?_
                    have hF := Option.some.inj hF; subst hF
                    exact z_iret dX7_isMark_59 rfl rfl ⟨rfl, rfl, rfl, rfl, rfl⟩
theorem fX7_163 : zFld RX7 163 6 16 := ⟨_, rfl, by decide, _, Or.inl q1693, Or.inl rfl⟩
theorem fX7_170 : zFld RX7 170 6 20 := ⟨_, rfl, by decide, _, Or.inl q1697, Or.inl rfl⟩
theorem fX7_173 : zFld RX7 173 6 18 := ⟨_, rfl, by decide, _, Or.inl q1695, Or.inl rfl⟩
theorem fX7_183 : zFld RX7 183 6 19 := ⟨_, rfl, by decide, _, Or.inl q1696, Or.inl rfl⟩
theorem fX7_196 : zFld RX7 196 6 21 := ⟨_, rfl, by decide, _, Or.inl q1698, Or.inl rfl⟩
theorem hcee_X7_byteAt : zCee yX7_byteAt RX7 1 := ⟨rfl, by decide +kernel, by decide +kernel, by decide +kernel⟩
theorem hcee_X7_isDigit : zCee yX7_isDigit RX7 1 := ⟨rfl, by decide +kernel, by decide +kernel, by decide +kernel⟩
theorem hcee_X7_isLetter : zCee yX7_isLetter RX7 1 := ⟨rfl, by decide +kernel, by decide +kernel, by decide +kernel⟩
theorem hcee_X7_isMark : zCee yX7_isMark RX7 1 := ⟨rfl, by decide +kernel, by decide +kernel, by decide +kernel⟩
abbrev MX7_stepOn : zM := (RX7, cX7_stepOn, 2, none, "stepOn", [])
noncomputable def F_X7_stepOn_L0 (I_1 : zId) : Option ((zId) ⊕ (zId)) := zb1 (F_X7_byteAt (I_1 1860 16) I_1) (fun x_3 => if x_3 = 32 then zlet (zu I_1 1860 16 ((I_1 1860 16) + 1)) (fun I_4 => some (.inl I_4)) else zb1 (F_X7_byteAt (I_1 1860 16) I_1) (fun x_7 => if ¬ x_7 = 10 then some (.inr (I_1)) else zlet (zu I_1 1860 16 ((I_1 1860 16) + 1)) (fun I_8 => some (.inl I_8))))
noncomputable def F_X7_stepOn_L123 (I_36 : zId) : Option ((zId) ⊕ (zId)) := zb1 (F_X7_byteAt (I_36 1860 16) I_36) (fun x_38 => zb1 (F_X7_isDigit x_38 I_36) (fun x_40 => if x_40 = 0 then some (.inr (I_36)) else zb1 (F_X7_byteAt (I_36 1860 16) I_36) (fun x_42 => zlet (zu I_36 1860 19 (zmin 100000 ((((10 : Int32) * (I_36 1860 19)) + x_42) - 48))) (fun I_43 => zlet (zu I_43 1860 16 ((I_43 1860 16) + 1)) (fun I_45 => some (.inl I_45))))))
noncomputable def F_X7_stepOn_L76 (I_53 : zId) : Option ((zId) ⊕ (zId)) := zb1 (F_X7_byteAt (I_53 1860 16) I_53) (fun x_55 => zb1 (F_X7_isLetter x_55 I_53) (fun x_57 => if x_57 = 0 then some (.inr (I_53)) else zlet (zu I_53 1860 16 ((I_53 1860 16) + 1)) (fun I_58 => some (.inl I_58))))
noncomputable def F_X7_stepOn (I : zId) : Option (zId) := zb1 (zloop (fun s : zId => F_X7_stepOn_L0 s) I) (fun I_10 => zlet (zu I_10 1860 20 (I_10 1860 16)) (fun I_12 => zb1 (F_X7_byteAt (I_12 1860 16) I_12) (fun x_15 => zlet (fun (I_16 : zId) => zlet (zu I_16 1860 21 (I_16 1860 16)) (fun I_20 => some I_20)) (fun k_17 => if ¬ x_15 = (-1) then zb1 (F_X7_isLetter x_15 I_12) (fun x_23 => if x_23 = 0 then zb1 (F_X7_isDigit x_15 I_12) (fun x_25 => if x_25 = 0 then zlet (zu I_12 1860 16 ((I_12 1860 16) + 1)) (fun I_26 => zb1 (F_X7_isMark x_15 I_26) (fun x_29 => if x_29 = 0 then zlet (zu I_26 1860 18 4) (fun I_30 => k_17 I_30) else zlet (zu I_26 1860 18 3) (fun I_32 => k_17 I_32))) else zlet (zu I_12 1860 19 0) (fun I_34 => zb1 (zloop (fun s : zId => F_X7_stepOn_L123 s) I_34) (fun I_47 => zlet (zu I_47 1860 18 2) (fun I_49 => k_17 I_49)))) else zb1 (zloop (fun s : zId => F_X7_stepOn_L76 s) I_12) (fun I_60 => zlet (zu I_60 1860 18 1) (fun I_62 => k_17 I_62))) else zlet (zu I_12 1860 18 0) (fun I_66 => k_17 I_66)))))
set_option maxHeartbeats 1000000 in
theorem W_X7_stepOn_L0 {l : Launch} {G : zGt} (htr : l.stackTraces = false) {K : zKd} {F : zFd} {L : zLd} {Q : zQt} {I_1 : zId} (hM : zMLay K F) {r : (zId) ⊕ (zId)} (hF : F_X7_stepOn_L0 I_1 = some r) (kl : ∀ (z0 : zId), r = .inl z0 → zW l G MX7_stepOn 1 24 0 0 0 [(0, .ref 1860)] [] K F z0 L Q) (kx : ∀ (y0 : zId), r = .inr y0 → zW l G MX7_stepOn 1 24 0 0 39 [(0, .ref 1860)] [] K F y0 L Q)  : zW l G MX7_stepOn 1 24 0 0 0 [(0, .ref 1860)] [] K F I_1 L Q := by
  unfold F_X7_stepOn_L0 at hF
  refine z_aload_n (n := 1) dX7_stepOn_0 rfl 0 rfl rfl ?_
  refine z_aload_n (n := 2) dX7_stepOn_1 rfl 0 rfl rfl ?_
  refine z_getI (n := 5) dX7_stepOn_2 rfl zok6 fX7_163 rfl hM.1 (Or.inl (by decide)) ?_
  obtain ⟨x_3, c_2, hF⟩ := zb1_some hF
  refine z_cV (n := 8) (st := []) (C_X7_byteAt htr hM c_2) dX7_stepOn_5 rfl (lw_V q1887 q1889 qs50 q131 q1890) hcee_X7_byteAt rfl (by decide) hM.1 rfl rfl rfl (Nat.le_of_ble_eq_true rfl) (Nat.le_refl _) (Nat.le_refl _) ?_
  refine z_bipush (n := 10) (v := 32) dX7_stepOn_8 rfl (by decide) ?_
  refine z_icmp_eq (n := 13) (t := 26) dX7_stepOn_10 rfl (by decide) (fun hc => ?_) (fun hc => ?_)
  · replace hF := (if_pos hc).symm.trans hF
    refine z_aload_n (n := 27) dX7_stepOn_26 rfl 0 rfl rfl ?_
    refine z_dup (n := 28) dX7_stepOn_27 rfl rfl ?_
    refine z_getI (n := 31) dX7_stepOn_28 rfl zok6 fX7_163 rfl hM.1 (Or.inl (by decide)) ?_
    refine z_iconst (n := 32) (v := 1) dX7_stepOn_31 rfl (by decide) ?_
    refine z_iadd (n := 33) dX7_stepOn_32 rfl ?_
    obtain ⟨I_4, e_5, hF⟩ := zlet_ob hF
    refine z_putIE (n := 36) dX7_stepOn_33 rfl zok6 fX7_163 (Or.inl ⟨_, rfl, rfl⟩) rfl ⟨rfl, rfl⟩ hM.1 (by decide) e_5 ?_
    refine z_goto (t := 0) dX7_stepOn_36 (by decide) ?_
    have hF := Option.some.inj hF; subst hF
    exact kl _ rfl
  · replace hF := (if_neg hc).symm.trans hF
    refine z_aload_n (n := 14) dX7_stepOn_13 rfl 0 rfl rfl ?_
    refine z_aload_n (n := 15) dX7_stepOn_14 rfl 0 rfl rfl ?_
    refine z_getI (n := 18) dX7_stepOn_15 rfl zok6 fX7_163 rfl hM.1 (Or.inl (by decide)) ?_
    obtain ⟨x_7, c_6, hF⟩ := zb1_some hF
    refine z_cV (n := 21) (st := []) (C_X7_byteAt htr hM c_6) dX7_stepOn_18 rfl (lw_V q1887 q1889 qs50 q131 q1890) hcee_X7_byteAt rfl (by decide) hM.1 rfl rfl rfl (Nat.le_of_ble_eq_true rfl) (Nat.le_refl _) (Nat.le_refl _) ?_
    refine z_bipush (n := 23) (v := 10) dX7_stepOn_21 rfl (by decide) ?_
    refine z_icmp_ne (n := 26) (t := 39) dX7_stepOn_23 rfl (by decide) (fun hc => ?_) (fun hc => ?_)
    · replace hF := (if_pos hc).symm.trans hF
      have hF := Option.some.inj hF; subst hF
      exact kx _ rfl
    · replace hF := (if_neg hc).symm.trans hF
      refine z_aload_n (n := 27) dX7_stepOn_26 rfl 0 rfl rfl ?_
      refine z_dup (n := 28) dX7_stepOn_27 rfl rfl ?_
      refine z_getI (n := 31) dX7_stepOn_28 rfl zok6 fX7_163 rfl hM.1 (Or.inl (by decide)) ?_
      refine z_iconst (n := 32) (v := 1) dX7_stepOn_31 rfl (by decide) ?_
      refine z_iadd (n := 33) dX7_stepOn_32 rfl ?_
      obtain ⟨I_8, e_9, hF⟩ := zlet_ob hF
      refine z_putIE (n := 36) dX7_stepOn_33 rfl zok6 fX7_163 (Or.inl ⟨_, rfl, rfl⟩) rfl ⟨rfl, rfl⟩ hM.1 (by decide) e_9 ?_
      refine z_goto (t := 0) dX7_stepOn_36 (by decide) ?_
      have hF := Option.some.inj hF; subst hF
      exact kl _ rfl
set_option maxHeartbeats 1000000 in
theorem W_X7_stepOn_L123 {l : Launch} {G : zGt} (htr : l.stackTraces = false) {K : zKd} {F : zFd} {L : zLd} {Q : zQt} {I_36 : zId} (hM : zMLay K F) {r : (zId) ⊕ (zId)} (hF : F_X7_stepOn_L123 I_36 = some r) (kl : ∀ (z0 : zId), r = .inl z0 → zW l G MX7_stepOn 1 24 0 0 123 [(0, .ref 1860)] [] K F z0 L Q) (kx : ∀ (y0 : zId), r = .inr y0 → zW l G MX7_stepOn 1 24 0 0 178 [(0, .ref 1860)] [] K F y0 L Q)  : zW l G MX7_stepOn 1 24 0 0 123 [(0, .ref 1860)] [] K F I_36 L Q := by
  unfold F_X7_stepOn_L123 at hF
  refine z_aload_n (n := 124) dX7_stepOn_123 rfl 0 rfl rfl ?_
  refine z_aload_n (n := 125) dX7_stepOn_124 rfl 0 rfl rfl ?_
  refine z_getI (n := 128) dX7_stepOn_125 rfl zok6 fX7_163 rfl hM.1 (Or.inl (by decide)) ?_
  obtain ⟨x_38, c_37, hF⟩ := zb1_some hF
  refine z_cV (n := 131) (st := []) (C_X7_byteAt htr hM c_37) dX7_stepOn_128 rfl (lw_V q1887 q1889 qs50 q131 q1890) hcee_X7_byteAt rfl (by decide) hM.1 rfl rfl rfl (Nat.le_of_ble_eq_true rfl) (Nat.le_refl _) (Nat.le_refl _) ?_
  obtain ⟨x_40, c_39, hF⟩ := zb1_some hF
  refine z_cS (n := 134) (st := []) (C_X7_isDigit htr c_39) dX7_stepOn_131 rfl (lw_S q1894 q1895 q131 q1896) hcee_X7_isDigit rfl (by decide) rfl (Nat.le_of_ble_eq_true rfl) (Nat.le_refl _) (Nat.le_refl _) ?_
  refine z_if_eq (n := 137) (t := 178) dX7_stepOn_134 rfl (by decide) (fun hc => ?_) (fun hc => ?_)
  · replace hF := (if_pos hc).symm.trans hF
    have hF := Option.some.inj hF; subst hF
    exact kx _ rfl
  · replace hF := (if_neg hc).symm.trans hF
    refine z_aload_n (n := 138) dX7_stepOn_137 rfl 0 rfl rfl ?_
    refine z_ldc (n := 140) dX7_stepOn_138 rfl q1897 ?_
    refine z_bipush (n := 142) (v := 10) dX7_stepOn_140 rfl (by decide) ?_
    refine z_aload_n (n := 143) dX7_stepOn_142 rfl 0 rfl rfl ?_
    refine z_getI (n := 146) dX7_stepOn_143 rfl zok6 fX7_183 rfl hM.1 (Or.inl (by decide)) ?_
    refine z_imul (n := 147) dX7_stepOn_146 rfl ?_
    refine z_aload_n (n := 148) dX7_stepOn_147 rfl 0 rfl rfl ?_
    refine z_aload_n (n := 149) dX7_stepOn_148 rfl 0 rfl rfl ?_
    refine z_getI (n := 152) dX7_stepOn_149 rfl zok6 fX7_163 rfl hM.1 (Or.inl (by decide)) ?_
    obtain ⟨x_42, c_41, hF⟩ := zb1_some hF
    refine z_cV (n := 155) (st := [.int ((10 : Int32) * (I_36 1860 19)), .int 100000, .ref 1860]) (C_X7_byteAt htr hM c_41) dX7_stepOn_152 rfl (lw_V q1887 q1889 qs50 q131 q1890) hcee_X7_byteAt rfl (by decide) hM.1 rfl rfl rfl (Nat.le_of_ble_eq_true rfl) (Nat.le_refl _) (Nat.le_refl _) ?_
    refine z_iadd (n := 156) dX7_stepOn_155 rfl ?_
    refine z_bipush (n := 158) (v := 48) dX7_stepOn_156 rfl (by decide) ?_
    refine z_isub (n := 159) dX7_stepOn_158 rfl ?_
    refine z_min (n := 162) dX7_stepOn_159 rfl q1898 q290 q119 q291 (by decide) (Nat.le_of_ble_eq_true rfl) ?_
    obtain ⟨I_43, e_44, hF⟩ := zlet_ob hF
    refine z_putIE (n := 165) dX7_stepOn_162 rfl zok6 fX7_183 (Or.inl ⟨_, rfl, rfl⟩) rfl ⟨rfl, rfl⟩ hM.1 (by decide) e_44 ?_
    refine z_aload_n (n := 166) dX7_stepOn_165 rfl 0 rfl rfl ?_
    refine z_dup (n := 167) dX7_stepOn_166 rfl rfl ?_
    refine z_getI (n := 170) dX7_stepOn_167 rfl zok6 fX7_163 rfl hM.1 (Or.inl (by decide)) ?_
    refine z_iconst (n := 171) (v := 1) dX7_stepOn_170 rfl (by decide) ?_
    refine z_iadd (n := 172) dX7_stepOn_171 rfl ?_
    obtain ⟨I_45, e_46, hF⟩ := zlet_ob hF
    refine z_putIE (n := 175) dX7_stepOn_172 rfl zok6 fX7_163 (Or.inl ⟨_, rfl, rfl⟩) rfl ⟨rfl, rfl⟩ hM.1 (by decide) e_46 ?_
    refine z_goto (t := 123) dX7_stepOn_175 (by decide) ?_
    have hF := Option.some.inj hF; subst hF
    exact kl _ rfl
set_option maxHeartbeats 1000000 in
theorem W_X7_stepOn_L76 {l : Launch} {G : zGt} (htr : l.stackTraces = false) {K : zKd} {F : zFd} {L : zLd} {Q : zQt} {I_53 : zId} (hM : zMLay K F) {r : (zId) ⊕ (zId)} (hF : F_X7_stepOn_L76 I_53 = some r) (kl : ∀ (z0 : zId), r = .inl z0 → zW l G MX7_stepOn 1 24 0 0 76 [(0, .ref 1860)] [] K F z0 L Q) (kx : ∀ (y0 : zId), r = .inr y0 → zW l G MX7_stepOn 1 24 0 0 103 [(0, .ref 1860)] [] K F y0 L Q)  : zW l G MX7_stepOn 1 24 0 0 76 [(0, .ref 1860)] [] K F I_53 L Q := by
  unfold F_X7_stepOn_L76 at hF
  refine z_aload_n (n := 77) dX7_stepOn_76 rfl 0 rfl rfl ?_
  refine z_aload_n (n := 78) dX7_stepOn_77 rfl 0 rfl rfl ?_
  refine z_getI (n := 81) dX7_stepOn_78 rfl zok6 fX7_163 rfl hM.1 (Or.inl (by decide)) ?_
  obtain ⟨x_55, c_54, hF⟩ := zb1_some hF
  refine z_cV (n := 84) (st := []) (C_X7_byteAt htr hM c_54) dX7_stepOn_81 rfl (lw_V q1887 q1889 qs50 q131 q1890) hcee_X7_byteAt rfl (by decide) hM.1 rfl rfl rfl (Nat.le_of_ble_eq_true rfl) (Nat.le_refl _) (Nat.le_refl _) ?_
  obtain ⟨x_57, c_56, hF⟩ := zb1_some hF
  refine z_cS (n := 87) (st := []) (C_X7_isLetter htr c_56) dX7_stepOn_84 rfl (lw_S q1891 q1892 q131 q1893) hcee_X7_isLetter rfl (by decide) rfl (Nat.le_of_ble_eq_true rfl) (Nat.le_refl _) (Nat.le_refl _) ?_
  refine z_if_eq (n := 90) (t := 103) dX7_stepOn_87 rfl (by decide) (fun hc => ?_) (fun hc => ?_)
  · replace hF := (if_pos hc).symm.trans hF
    have hF := Option.some.inj hF; subst hF
    exact kx _ rfl
  · replace hF := (if_neg hc).symm.trans hF
    refine z_aload_n (n := 91) dX7_stepOn_90 rfl 0 rfl rfl ?_
    refine z_dup (n := 92) dX7_stepOn_91 rfl rfl ?_
    refine z_getI (n := 95) dX7_stepOn_92 rfl zok6 fX7_163 rfl hM.1 (Or.inl (by decide)) ?_
    refine z_iconst (n := 96) (v := 1) dX7_stepOn_95 rfl (by decide) ?_
    refine z_iadd (n := 97) dX7_stepOn_96 rfl ?_
    obtain ⟨I_58, e_59, hF⟩ := zlet_ob hF
    refine z_putIE (n := 100) dX7_stepOn_97 rfl zok6 fX7_163 (Or.inl ⟨_, rfl, rfl⟩) rfl ⟨rfl, rfl⟩ hM.1 (by decide) e_59 ?_
    refine z_goto (t := 76) dX7_stepOn_100 (by decide) ?_
    have hF := Option.some.inj hF; subst hF
    exact kl _ rfl
set_option maxHeartbeats 1000000 in
theorem C_X7_stepOn {l : Launch} {G : zGt} (htr : l.stackTraces = false) {K : zKd} {F : zFd} {L : zLd} (hM : zMLay K F) {I : zId} {r : zId} (hF : F_X7_stepOn I = some r) : zMet l G yX7_stepOn (ws_ yX7_stepOn cX7_stepOn 2 none) 1 24 0 0 [.ref 1860] K F I L (zQe (.inl none) K F r L) := by
  refine zMet.of (by decide +kernel) htr (Nat.le_of_ble_eq_true rfl) ?_
  change zW l G MX7_stepOn 1 24 0 0 0 [(0, .ref 1860)] [] K F I L (zQe (.inl none) K F r L)
  unfold F_X7_stepOn at hF
  obtain ⟨t_68, e_11, hF⟩ := zb1_some hF
  obtain ⟨I_10, rfl⟩ : ∃ z, z = t_68 := ⟨_, rfl⟩
  have H_69 : zW l G MX7_stepOn 1 24 0 0 39 [(0, .ref 1860)] [] K F I_10 L (zQe (.inl none) K F r L) := by
    refine z_aload_n (n := 40) dX7_stepOn_39 rfl 0 rfl rfl ?_
    refine z_aload_n (n := 41) dX7_stepOn_40 rfl 0 rfl rfl ?_
    refine z_getI (n := 44) dX7_stepOn_41 rfl zok6 fX7_163 rfl hM.1 (Or.inl (by decide)) ?_
    obtain ⟨I_12, e_13, hF⟩ := zlet_ob hF
    refine z_putIE (n := 47) dX7_stepOn_44 rfl zok6 fX7_170 (Or.inl ⟨_, rfl, rfl⟩) rfl ⟨rfl, rfl⟩ hM.1 (by decide) e_13 ?_
    refine z_aload_n (n := 48) dX7_stepOn_47 rfl 0 rfl rfl ?_
    refine z_aload_n (n := 49) dX7_stepOn_48 rfl 0 rfl rfl ?_
    refine z_getI (n := 52) dX7_stepOn_49 rfl zok6 fX7_163 rfl hM.1 (Or.inl (by decide)) ?_
    obtain ⟨x_15, c_14, hF⟩ := zb1_some hF
    refine z_cV (n := 55) (st := []) (C_X7_byteAt htr hM c_14) dX7_stepOn_52 rfl (lw_V q1887 q1889 qs50 q131 q1890) hcee_X7_byteAt rfl (by decide) hM.1 rfl rfl rfl (Nat.le_of_ble_eq_true rfl) (Nat.le_refl _) (Nat.le_refl _) ?_
    refine z_istore_nE (n := 56) (lv' := [(1, .int x_15), (0, .ref 1860)]) dX7_stepOn_55 rfl rfl rfl (by decide) rfl ?_
    refine z_iload_n (n := 57) dX7_stepOn_56 rfl 0 rfl rfl ?_
    refine z_iconst (n := 58) (v := (-1)) dX7_stepOn_57 rfl (by decide) ?_
    obtain ⟨k_17, e_18, hF⟩ := zlet_ob hF
    have H_19 : ∀ (I_16 : zId), k_17 I_16 = some r → zW l G MX7_stepOn 1 24 0 0 212 [(0, .ref 1860)] [] K F I_16 L (zQe (.inl none) K F r L) := by
      intro I_16 hF
      subst e_18
      dsimp only at hF
      refine z_aload_n (n := 213) dX7_stepOn_212 rfl 0 rfl rfl ?_
      refine z_aload_n (n := 214) dX7_stepOn_213 rfl 0 rfl rfl ?_
      refine z_getI (n := 217) dX7_stepOn_214 rfl zok6 fX7_163 rfl hM.1 (Or.inl (by decide)) ?_
      obtain ⟨I_20, e_21, hF⟩ := zlet_ob hF
      refine z_putIE (n := 220) dX7_stepOn_217 rfl zok6 fX7_196 (Or.inl ⟨_, rfl, rfl⟩) rfl ⟨rfl, rfl⟩ hM.1 (by decide) e_21 ?_
      have hF := Option.some.inj hF; subst hF
      exact z_vret dX7_stepOn_220 rfl ⟨rfl, rfl, rfl, rfl, rfl⟩
    clear e_18
    refine z_icmp_ne (n := 61) (t := 69) dX7_stepOn_58 rfl (by decide) (fun hc => ?_) (fun hc => ?_)
    · replace hF := (if_pos hc).symm.trans hF
      refine z_iload_n (n := 70) dX7_stepOn_69 rfl 0 rfl rfl ?_
      obtain ⟨x_23, c_22, hF⟩ := zb1_some hF
      refine z_cS (n := 73) (st := []) (C_X7_isLetter htr c_22) dX7_stepOn_70 rfl (lw_S q1891 q1892 q131 q1893) hcee_X7_isLetter rfl (by decide) rfl (Nat.le_of_ble_eq_true rfl) (Nat.le_refl _) (Nat.le_refl _) ?_
      refine z_if_eq (n := 76) (t := 111) dX7_stepOn_73 rfl (by decide) (fun hc => ?_) (fun hc => ?_)
      · replace hF := (if_pos hc).symm.trans hF
        refine z_iload_n (n := 112) dX7_stepOn_111 rfl 0 rfl rfl ?_
        obtain ⟨x_25, c_24, hF⟩ := zb1_some hF
        refine z_cS (n := 115) (st := []) (C_X7_isDigit htr c_24) dX7_stepOn_112 rfl (lw_S q1894 q1895 q131 q1896) hcee_X7_isDigit rfl (by decide) rfl (Nat.le_of_ble_eq_true rfl) (Nat.le_refl _) (Nat.le_refl _) ?_
        refine z_if_eq (n := 118) (t := 186) dX7_stepOn_115 rfl (by decide) (fun hc => ?_) (fun hc => ?_)
        · replace hF := (if_pos hc).symm.trans hF
          refine z_aload_n (n := 187) dX7_stepOn_186 rfl 1 rfl rfl ?_
          refine z_dup (n := 188) dX7_stepOn_187 rfl rfl ?_
          refine z_getI (n := 191) dX7_stepOn_188 rfl zok6 fX7_163 rfl hM.1 (Or.inl (by decide)) ?_
          refine z_iconst (n := 192) (v := 1) dX7_stepOn_191 rfl (by decide) ?_
          refine z_iadd (n := 193) dX7_stepOn_192 rfl ?_
          obtain ⟨I_26, e_27, hF⟩ := zlet_ob hF
          refine z_putIE (n := 196) dX7_stepOn_193 rfl zok6 fX7_163 (Or.inl ⟨_, rfl, rfl⟩) rfl ⟨rfl, rfl⟩ hM.1 (by decide) e_27 ?_
          refine z_aload_n (n := 197) dX7_stepOn_196 rfl 1 rfl rfl ?_
          refine z_iload_n (n := 198) dX7_stepOn_197 rfl 0 rfl rfl ?_
          obtain ⟨x_29, c_28, hF⟩ := zb1_some hF
          refine z_cS (n := 201) (st := [.ref 1860]) (C_X7_isMark htr c_28) dX7_stepOn_198 rfl (lw_S q1899 q1900 q131 q1901) hcee_X7_isMark rfl (by decide) rfl (Nat.le_of_ble_eq_true rfl) (Nat.le_refl _) (Nat.le_refl _) ?_
          refine z_if_eq (n := 204) (t := 208) dX7_stepOn_201 rfl (by decide) (fun hc => ?_) (fun hc => ?_)
          · replace hF := (if_pos hc).symm.trans hF
            refine z_iconst (n := 209) (v := 4) dX7_stepOn_208 rfl (by decide) ?_
            obtain ⟨I_30, e_31, hF⟩ := zlet_ob hF
            refine z_putIE (n := 212) dX7_stepOn_209 rfl zok6 fX7_173 (Or.inl ⟨_, rfl, rfl⟩) rfl ⟨rfl, rfl⟩ hM.1 (by decide) e_31 ?_
            refine z_sub [1] rfl ?_
            exact H_19 _ hF
          · replace hF := (if_neg hc).symm.trans hF
            refine z_iconst (n := 205) (v := 3) dX7_stepOn_204 rfl (by decide) ?_
            refine z_goto (t := 209) dX7_stepOn_205 (by decide) ?_
            obtain ⟨I_32, e_33, hF⟩ := zlet_ob hF
            refine z_putIE (n := 212) dX7_stepOn_209 rfl zok6 fX7_173 (Or.inl ⟨_, rfl, rfl⟩) rfl ⟨rfl, rfl⟩ hM.1 (by decide) e_33 ?_
            refine z_sub [1] rfl ?_
            exact H_19 _ hF
        · replace hF := (if_neg hc).symm.trans hF
          refine z_aload_n (n := 119) dX7_stepOn_118 rfl 1 rfl rfl ?_
          refine z_iconst (n := 120) (v := 0) dX7_stepOn_119 rfl (by decide) ?_
          obtain ⟨I_34, e_35, hF⟩ := zlet_ob hF
          refine z_putIE (n := 123) dX7_stepOn_120 rfl zok6 fX7_183 (Or.inl ⟨_, rfl, rfl⟩) rfl ⟨rfl, rfl⟩ hM.1 (by decide) e_35 ?_
          refine z_sub [1] rfl ?_
          obtain ⟨t_51, e_48, hF⟩ := zb1_some hF
          obtain ⟨I_47, rfl⟩ : ∃ z, z = t_51 := ⟨_, rfl⟩
          have H_52 : zW l G MX7_stepOn 1 24 0 0 178 [(0, .ref 1860)] [] K F I_47 L (zQe (.inl none) K F r L) := by
            refine z_aload_n (n := 179) dX7_stepOn_178 rfl 0 rfl rfl ?_
            refine z_iconst (n := 180) (v := 2) dX7_stepOn_179 rfl (by decide) ?_
            obtain ⟨I_49, e_50, hF⟩ := zlet_ob hF
            refine z_putIE (n := 183) dX7_stepOn_180 rfl zok6 fX7_173 (Or.inl ⟨_, rfl, rfl⟩) rfl ⟨rfl, rfl⟩ hM.1 (by decide) e_50 ?_
            refine z_goto (t := 212) dX7_stepOn_183 (by decide) ?_
            exact H_19 _ hF
          refine zloop_ind (P := fun s : zId => zW l G MX7_stepOn 1 24 0 0 123 [(0, .ref 1860)] [] K F s L (zQe (.inl none) K F r L)) (fun s r hb kl kr => ?_) e_48
          exact W_X7_stepOn_L123 htr hM hb (fun z0 e => kl _ e) (fun y0 e => by cases kr _ e; exact H_52)
      · replace hF := (if_neg hc).symm.trans hF
        refine z_sub [1] rfl ?_
        obtain ⟨t_64, e_61, hF⟩ := zb1_some hF
        obtain ⟨I_60, rfl⟩ : ∃ z, z = t_64 := ⟨_, rfl⟩
        have H_65 : zW l G MX7_stepOn 1 24 0 0 103 [(0, .ref 1860)] [] K F I_60 L (zQe (.inl none) K F r L) := by
          refine z_aload_n (n := 104) dX7_stepOn_103 rfl 0 rfl rfl ?_
          refine z_iconst (n := 105) (v := 1) dX7_stepOn_104 rfl (by decide) ?_
          obtain ⟨I_62, e_63, hF⟩ := zlet_ob hF
          refine z_putIE (n := 108) dX7_stepOn_105 rfl zok6 fX7_173 (Or.inl ⟨_, rfl, rfl⟩) rfl ⟨rfl, rfl⟩ hM.1 (by decide) e_63 ?_
          refine z_goto (t := 212) dX7_stepOn_108 (by decide) ?_
          exact H_19 _ hF
        refine zloop_ind (P := fun s : zId => zW l G MX7_stepOn 1 24 0 0 76 [(0, .ref 1860)] [] K F s L (zQe (.inl none) K F r L)) (fun s r hb kl kr => ?_) e_61
        exact W_X7_stepOn_L76 htr hM hb (fun z0 e => kl _ e) (fun y0 e => by cases kr _ e; exact H_65)
    · replace hF := (if_neg hc).symm.trans hF
      refine z_aload_n (n := 62) dX7_stepOn_61 rfl 1 rfl rfl ?_
      refine z_iconst (n := 63) (v := 0) dX7_stepOn_62 rfl (by decide) ?_
      obtain ⟨I_66, e_67, hF⟩ := zlet_ob hF
      refine z_putIE (n := 66) dX7_stepOn_63 rfl zok6 fX7_173 (Or.inl ⟨_, rfl, rfl⟩) rfl ⟨rfl, rfl⟩ hM.1 (by decide) e_67 ?_
      refine z_goto (t := 212) dX7_stepOn_66 (by decide) ?_
      refine z_sub [1] rfl ?_
      exact H_19 _ hF
  refine zloop_ind (P := fun s : zId => zW l G MX7_stepOn 1 24 0 0 0 [(0, .ref 1860)] [] K F s L (zQe (.inl none) K F r L)) (fun s r hb kl kr => ?_) e_11
  exact W_X7_stepOn_L0 htr hM hb (fun z0 e => kl _ e) (fun y0 e => by cases kr _ e; exact H_69)
theorem fX7_199 : zFld RX7 199 6 22 := ⟨_, rfl, by decide, _, Or.inl q1699, Or.inl rfl⟩
theorem fX7_202 : zFld RX7 202 6 23 := ⟨_, rfl, by decide, _, Or.inl q1700, Or.inl rfl⟩
abbrev MX7_wrong : zM := (RX7, cX7_wrong, 2, none, "wrong", [])
noncomputable def F_X7_wrong (a0 : Int32) (I : zId) : Option (zId) := if (I 1860 22) = 0 then zlet (zu I 1860 22 a0) (fun I_1 => zlet (zu I_1 1860 23 (I_1 1860 20)) (fun I_3 => some I_3)) else some I
set_option maxHeartbeats 1000000 in
theorem C_X7_wrong {l : Launch} {G : zGt} (htr : l.stackTraces = false) {K : zKd} {F : zFd} {L : zLd} {a0 : Int32} (hM : zMLay K F) {I : zId} {r : zId} (hF : F_X7_wrong a0 I = some r) : zMet l G yX7_wrong (ws_ yX7_wrong cX7_wrong 2 none) 0 0 0 0 [.ref 1860, .int a0] K F I L (zQe (.inl none) K F r L) := by
  refine zMet.of (by decide +kernel) htr (Nat.le_of_ble_eq_true rfl) ?_
  change zW l G MX7_wrong 0 0 0 0 0 [(0, .ref 1860), (1, .int a0)] [] K F I L (zQe (.inl none) K F r L)
  unfold F_X7_wrong at hF
  refine z_aload_n (n := 1) dX7_wrong_0 rfl 0 rfl rfl ?_
  refine z_getI (n := 4) dX7_wrong_1 rfl zok6 fX7_199 rfl hM.1 (Or.inl (by decide)) ?_
  refine z_if_eq (n := 7) (t := 8) dX7_wrong_4 rfl (by decide) (fun hc => ?_) (fun hc => ?_)
  · replace hF := (if_pos hc).symm.trans hF
    refine z_aload_n (n := 9) dX7_wrong_8 rfl 0 rfl rfl ?_
    refine z_iload_n (n := 10) dX7_wrong_9 rfl 1 rfl rfl ?_
    obtain ⟨I_1, e_2, hF⟩ := zlet_ob hF
    refine z_putIE (n := 13) dX7_wrong_10 rfl zok6 fX7_199 (Or.inl ⟨_, rfl, rfl⟩) rfl ⟨rfl, rfl⟩ hM.1 (by decide) e_2 ?_
    refine z_aload_n (n := 14) dX7_wrong_13 rfl 0 rfl rfl ?_
    refine z_aload_n (n := 15) dX7_wrong_14 rfl 0 rfl rfl ?_
    refine z_getI (n := 18) dX7_wrong_15 rfl zok6 fX7_170 rfl hM.1 (Or.inl (by decide)) ?_
    obtain ⟨I_3, e_4, hF⟩ := zlet_ob hF
    refine z_putIE (n := 21) dX7_wrong_18 rfl zok6 fX7_202 (Or.inl ⟨_, rfl, rfl⟩) rfl ⟨rfl, rfl⟩ hM.1 (by decide) e_4 ?_
    have hF := Option.some.inj hF; subst hF
    exact z_vret dX7_wrong_21 rfl ⟨rfl, rfl, rfl, rfl, rfl⟩
  · replace hF := (if_neg hc).symm.trans hF
    have hF := Option.some.inj hF; subst hF
    exact z_vret dX7_wrong_7 rfl ⟨rfl, rfl, rfl, rfl, rfl⟩
theorem hcee_X7_wrong : zCee yX7_wrong RX7 1 := ⟨rfl, by decide +kernel, by decide +kernel, by decide +kernel⟩
abbrev MX7_numberNow : zM := (RX7, cX7_numberNow, 3, (some .int), "numberNow", [])
noncomputable def F_X7_numberNow (a0 : Int32) (a1 : Int32) (I : zId) : Option (Int32 × zId) := if (I 1860 22) = 0 then zlet (fun (I_1 : zId) => if ¬ (I_1 1860 22) = 0 then some (0, I_1) else some (I_1 1860 19, I_1)) (fun k_2 => if (I 1860 18) = 2 then if 4 < ((I 1860 21) - (I 1860 20)) then zb1 (F_X7_wrong 2 I) (fun I_6 => k_2 I_6) else if (I 1860 19) < a0 then zb1 (F_X7_wrong 2 I) (fun I_8 => k_2 I_8) else if (I 1860 19) ≤ a1 then k_2 I else zb1 (F_X7_wrong 2 I) (fun I_10 => k_2 I_10) else zb1 (F_X7_wrong 1 I) (fun I_12 => k_2 I_12)) else some (0, I)
set_option maxHeartbeats 1000000 in
theorem C_X7_numberNow {l : Launch} {G : zGt} (htr : l.stackTraces = false) {K : zKd} {F : zFd} {L : zLd} {a0 : Int32} {a1 : Int32} (hM : zMLay K F) {I : zId} {r : Int32 × zId} (hF : F_X7_numberNow a0 a1 I = some r) : zMet l G yX7_numberNow (ws_ yX7_numberNow cX7_numberNow 3 (some .int)) 1 21 0 0 [.ref 1860, .int a0, .int a1] K F I L (zQe (.inl (some (.int r.1))) K F r.2 L) := by
  refine zMet.of (by decide +kernel) htr (Nat.le_of_ble_eq_true rfl) ?_
  change zW l G MX7_numberNow 1 21 0 0 0 [(0, .ref 1860), (1, .int a0), (2, .int a1)] [] K F I L (zQe (.inl (some (.int r.1))) K F r.2 L)
  unfold F_X7_numberNow at hF
  refine z_aload_n (n := 1) dX7_numberNow_0 rfl 0 rfl rfl ?_
  refine z_getI (n := 4) dX7_numberNow_1 rfl zok6 fX7_199 rfl hM.1 (Or.inl (by decide)) ?_
  refine z_if_eq (n := 7) (t := 9) dX7_numberNow_4 rfl (by decide) (fun hc => ?_) (fun hc => ?_)
  · replace hF := (if_pos hc).symm.trans hF
    refine z_aload_n (n := 10) dX7_numberNow_9 rfl 0 rfl rfl ?_
    refine z_getI (n := 13) dX7_numberNow_10 rfl zok6 fX7_173 rfl hM.1 (Or.inl (by decide)) ?_
    refine z_iconst (n := 14) (v := 2) dX7_numberNow_13 rfl (by decide) ?_
    obtain ⟨k_2, e_3, hF⟩ := zlet_ob hF
    have H_4 : ∀ (I_1 : zId), k_2 I_1 = some r → zW l G MX7_numberNow 1 21 0 0 59 [(0, .ref 1860)] [] K F I_1 L (zQe (.inl (some (.int r.1))) K F r.2 L) := by
      intro I_1 hF
      subst e_3
      dsimp only at hF
      refine z_aload_n (n := 60) dX7_numberNow_59 rfl 0 rfl rfl ?_
      refine z_getI (n := 63) dX7_numberNow_60 rfl zok6 fX7_199 rfl hM.1 (Or.inl (by decide)) ?_
      refine z_if_ne (n := 66) (t := 73) dX7_numberNow_63 rfl (by decide) (fun hc => ?_) (fun hc => ?_)
      · replace hF := (if_pos hc).symm.trans hF
        refine z_iconst (n := 74) (v := 0) dX7_numberNow_73 rfl (by decide) ?_
        have hF := Option.some.inj hF; subst hF
        exact z_iret dX7_numberNow_74 rfl rfl ⟨rfl, rfl, rfl, rfl, rfl⟩
      · replace hF := (if_neg hc).symm.trans hF
        refine z_aload_n (n := 67) dX7_numberNow_66 rfl 0 rfl rfl ?_
        refine z_getI (n := 70) dX7_numberNow_67 rfl zok6 fX7_183 rfl hM.1 (Or.inl (by decide)) ?_
        refine z_goto (t := 74) dX7_numberNow_70 (by decide) ?_
        have hF := Option.some.inj hF; subst hF
        exact z_iret dX7_numberNow_74 rfl rfl ⟨rfl, rfl, rfl, rfl, rfl⟩
    clear e_3
    refine z_icmp_eq (n := 17) (t := 25) dX7_numberNow_14 rfl (by decide) (fun hc => ?_) (fun hc => ?_)
    · replace hF := (if_pos hc).symm.trans hF
      refine z_aload_n (n := 26) dX7_numberNow_25 rfl 0 rfl rfl ?_
      refine z_getI (n := 29) dX7_numberNow_26 rfl zok6 fX7_196 rfl hM.1 (Or.inl (by decide)) ?_
      refine z_aload_n (n := 30) dX7_numberNow_29 rfl 0 rfl rfl ?_
      refine z_getI (n := 33) dX7_numberNow_30 rfl zok6 fX7_170 rfl hM.1 (Or.inl (by decide)) ?_
      refine z_isub (n := 34) dX7_numberNow_33 rfl ?_
      refine z_iconst (n := 35) (v := 4) dX7_numberNow_34 rfl (by decide) ?_
      refine z_icmp_gt (n := 38) (t := 54) dX7_numberNow_35 rfl (by decide) (fun hc => ?_) (fun hc => ?_)
      · replace hF := (if_pos hc).symm.trans hF
        refine z_aload_n (n := 55) dX7_numberNow_54 rfl 0 rfl rfl ?_
        refine z_iconst (n := 56) (v := 2) dX7_numberNow_55 rfl (by decide) ?_
        obtain ⟨I_6, c_5, hF⟩ := zb1_some hF
        refine z_cV (n := 59) (st := []) (C_X7_wrong htr hM c_5) dX7_numberNow_56 rfl (lw_V q1916 q1918 qs53 q131 q1919) hcee_X7_wrong rfl (by decide) hM.1 rfl rfl rfl (Nat.le_of_ble_eq_true rfl) (Nat.le_refl _) (Nat.le_refl _) ?_
        refine z_sub [0] rfl ?_
        exact H_4 _ hF
      · replace hF := (if_neg hc).symm.trans hF
        refine z_aload_n (n := 39) dX7_numberNow_38 rfl 0 rfl rfl ?_
        refine z_getI (n := 42) dX7_numberNow_39 rfl zok6 fX7_183 rfl hM.1 (Or.inl (by decide)) ?_
        refine z_iload_n (n := 43) dX7_numberNow_42 rfl 1 rfl rfl ?_
        refine z_icmp_lt (n := 46) (t := 54) dX7_numberNow_43 rfl (by decide) (fun hc => ?_) (fun hc => ?_)
        · replace hF := (if_pos hc).symm.trans hF
          refine z_aload_n (n := 55) dX7_numberNow_54 rfl 0 rfl rfl ?_
          refine z_iconst (n := 56) (v := 2) dX7_numberNow_55 rfl (by decide) ?_
          obtain ⟨I_8, c_7, hF⟩ := zb1_some hF
          refine z_cV (n := 59) (st := []) (C_X7_wrong htr hM c_7) dX7_numberNow_56 rfl (lw_V q1916 q1918 qs53 q131 q1919) hcee_X7_wrong rfl (by decide) hM.1 rfl rfl rfl (Nat.le_of_ble_eq_true rfl) (Nat.le_refl _) (Nat.le_refl _) ?_
          refine z_sub [0] rfl ?_
          exact H_4 _ hF
        · replace hF := (if_neg hc).symm.trans hF
          refine z_aload_n (n := 47) dX7_numberNow_46 rfl 0 rfl rfl ?_
          refine z_getI (n := 50) dX7_numberNow_47 rfl zok6 fX7_183 rfl hM.1 (Or.inl (by decide)) ?_
          refine z_iload_n (n := 51) dX7_numberNow_50 rfl 2 rfl rfl ?_
          refine z_icmp_le (n := 54) (t := 59) dX7_numberNow_51 rfl (by decide) (fun hc => ?_) (fun hc => ?_)
          · replace hF := (if_pos hc).symm.trans hF
            refine z_sub [0] rfl ?_
            exact H_4 _ hF
          · replace hF := (if_neg hc).symm.trans hF
            refine z_aload_n (n := 55) dX7_numberNow_54 rfl 0 rfl rfl ?_
            refine z_iconst (n := 56) (v := 2) dX7_numberNow_55 rfl (by decide) ?_
            obtain ⟨I_10, c_9, hF⟩ := zb1_some hF
            refine z_cV (n := 59) (st := []) (C_X7_wrong htr hM c_9) dX7_numberNow_56 rfl (lw_V q1916 q1918 qs53 q131 q1919) hcee_X7_wrong rfl (by decide) hM.1 rfl rfl rfl (Nat.le_of_ble_eq_true rfl) (Nat.le_refl _) (Nat.le_refl _) ?_
            refine z_sub [0] rfl ?_
            exact H_4 _ hF
    · replace hF := (if_neg hc).symm.trans hF
      refine z_aload_n (n := 18) dX7_numberNow_17 rfl 0 rfl rfl ?_
      refine z_iconst (n := 19) (v := 1) dX7_numberNow_18 rfl (by decide) ?_
      obtain ⟨I_12, c_11, hF⟩ := zb1_some hF
      refine z_cV (n := 22) (st := []) (C_X7_wrong htr hM c_11) dX7_numberNow_19 rfl (lw_V q1916 q1918 qs53 q131 q1919) hcee_X7_wrong rfl (by decide) hM.1 rfl rfl rfl (Nat.le_of_ble_eq_true rfl) (Nat.le_refl _) (Nat.le_refl _) ?_
      refine z_goto (t := 59) dX7_numberNow_22 (by decide) ?_
      refine z_sub [0] rfl ?_
      exact H_4 _ hF
  · replace hF := (if_neg hc).symm.trans hF
    refine z_iconst (n := 8) (v := 0) dX7_numberNow_7 rfl (by decide) ?_
    have hF := Option.some.inj hF; subst hF
    exact z_iret dX7_numberNow_8 rfl rfl ⟨rfl, rfl, rfl, rfl, rfl⟩
theorem hcee_X7_numberNow : zCee yX7_numberNow RX7 2 := ⟨rfl, by decide +kernel, by decide +kernel, by decide +kernel⟩
theorem hcee_X7_stepOn : zCee yX7_stepOn RX7 0 := ⟨rfl, by decide +kernel, by decide +kernel, by decide +kernel⟩
abbrev MX7_readNumber : zM := (RX7, cX7_readNumber, 4, (some .int), "readNumber", [])
noncomputable def F_X7_readNumber (a0 : Int32) (a1 : Int32) (I : zId) : Option (Int32 × zId) := zb2 (F_X7_numberNow a0 a1 I) (fun x_2 I_3 => if ¬ (I_3 1860 22) = 0 then some (x_2, I_3) else zb1 (F_X7_stepOn I_3) (fun I_5 => some (x_2, I_5)))
set_option maxHeartbeats 1000000 in
theorem C_X7_readNumber {l : Launch} {G : zGt} (htr : l.stackTraces = false) {K : zKd} {F : zFd} {L : zLd} {a0 : Int32} {a1 : Int32} (hM : zMLay K F) {I : zId} {r : Int32 × zId} (hF : F_X7_readNumber a0 a1 I = some r) : zMet l G yX7_readNumber (ws_ yX7_readNumber cX7_readNumber 4 (some .int)) 2 45 0 0 [.ref 1860, .int a0, .int a1] K F I L (zQe (.inl (some (.int r.1))) K F r.2 L) := by
  refine zMet.of (by decide +kernel) htr (Nat.le_of_ble_eq_true rfl) ?_
  change zW l G MX7_readNumber 2 45 0 0 0 [(0, .ref 1860), (1, .int a0), (2, .int a1)] [] K F I L (zQe (.inl (some (.int r.1))) K F r.2 L)
  unfold F_X7_readNumber at hF
  refine z_aload_n (n := 1) dX7_readNumber_0 rfl 0 rfl rfl ?_
  refine z_iload_n (n := 2) dX7_readNumber_1 rfl 1 rfl rfl ?_
  refine z_iload_n (n := 3) dX7_readNumber_2 rfl 2 rfl rfl ?_
  obtain ⟨x_2, I_3, c_1, hF⟩ := zb2_some hF
  refine z_cV (n := 6) (st := []) (C_X7_numberNow htr hM c_1) dX7_readNumber_3 rfl (lw_V q1924 q1926 qs55 q131 q1927) hcee_X7_numberNow rfl (by decide) hM.1 rfl rfl rfl (Nat.le_of_ble_eq_true rfl) (Nat.le_refl _) (Nat.le_refl _) ?_
  refine z_istore_nE (n := 7) (lv' := [(3, .int x_2), (0, .ref 1860), (1, .int a0), (2, .int a1)]) dX7_readNumber_6 rfl rfl rfl (by decide) rfl ?_
  refine z_aload_n (n := 8) dX7_readNumber_7 rfl 1 rfl rfl ?_
  refine z_getI (n := 11) dX7_readNumber_8 rfl zok6 fX7_199 rfl hM.1 (Or.inl (by decide)) ?_
  refine z_if_ne (n := 14) (t := 18) dX7_readNumber_11 rfl (by decide) (fun hc => ?_) (fun hc => ?_)
  · replace hF := (if_pos hc).symm.trans hF
    refine z_iload_n (n := 19) dX7_readNumber_18 rfl 0 rfl rfl ?_
    have hF := Option.some.inj hF; subst hF
    exact z_iret dX7_readNumber_19 rfl rfl ⟨rfl, rfl, rfl, rfl, rfl⟩
  · replace hF := (if_neg hc).symm.trans hF
    refine z_aload_n (n := 15) dX7_readNumber_14 rfl 1 rfl rfl ?_
    obtain ⟨I_5, c_4, hF⟩ := zb1_some hF
    refine z_cV (n := 18) (st := []) (C_X7_stepOn htr hM c_4) dX7_readNumber_15 rfl (lw_V q1883 q1885 qs49 q131 q1886) hcee_X7_stepOn rfl (by decide) hM.1 rfl rfl rfl (Nat.le_of_ble_eq_true rfl) (Nat.le_refl _) (Nat.le_refl _) ?_
    refine z_iload_n (n := 19) dX7_readNumber_18 rfl 0 rfl rfl ?_
    have hF := Option.some.inj hF; subst hF
    exact z_iret dX7_readNumber_19 rfl rfl ⟨rfl, rfl, rfl, rfl, rfl⟩
abbrev MX7_isMarked : zM := (RX7, cX7_isMarked, 2, (some .boolean), "isMarked", [])
noncomputable def F_X7_isMarked (a0 : Int32) (I : zId) : Option (Int32) := if ¬ (I 1860 22) = 0 then some 0 else if ¬ (I 1860 18) = 3 then some 0 else zg (zin (I 1860 20) 700) (if ¬ (I 1874 ((I 1860 20).toNatClampNeg)) = a0 then some 0 else some 1)
set_option maxHeartbeats 1000000 in
theorem C_X7_isMarked {l : Launch} {G : zGt} (htr : l.stackTraces = false) {K : zKd} {F : zFd} {L : zLd} {a0 : Int32} (hM : zMLay K F) {I : zId} {r : Int32} (hF : F_X7_isMarked a0 I = some r) : zMet l G yX7_isMarked (ws_ yX7_isMarked cX7_isMarked 2 (some .boolean)) 0 0 0 0 [.ref 1860, .int a0] K F I L (zQe (.inl (some (.int r))) K F I L) := by
  refine zMet.of (by decide +kernel) htr (Nat.le_of_ble_eq_true rfl) ?_
  change zW l G MX7_isMarked 0 0 0 0 0 [(0, .ref 1860), (1, .int a0)] [] K F I L (zQe (.inl (some (.int r))) K F I L)
  unfold F_X7_isMarked at hF
  refine z_aload_n (n := 1) dX7_isMarked_0 rfl 0 rfl rfl ?_
  refine z_getI (n := 4) dX7_isMarked_1 rfl zok6 fX7_199 rfl hM.1 (Or.inl (by decide)) ?_
  refine z_if_ne (n := 7) (t := 32) dX7_isMarked_4 rfl (by decide) (fun hc => ?_) (fun hc => ?_)
  · replace hF := (if_pos hc).symm.trans hF
    refine z_iconst (n := 33) (v := 0) dX7_isMarked_32 rfl (by decide) ?_
    have hF := Option.some.inj hF; subst hF
    exact z_iret dX7_isMarked_33 rfl rfl ⟨rfl, rfl, rfl, rfl, rfl⟩
  · replace hF := (if_neg hc).symm.trans hF
    refine z_aload_n (n := 8) dX7_isMarked_7 rfl 0 rfl rfl ?_
    refine z_getI (n := 11) dX7_isMarked_8 rfl zok6 fX7_173 rfl hM.1 (Or.inl (by decide)) ?_
    refine z_iconst (n := 12) (v := 3) dX7_isMarked_11 rfl (by decide) ?_
    refine z_icmp_ne (n := 15) (t := 32) dX7_isMarked_12 rfl (by decide) (fun hc => ?_) (fun hc => ?_)
    · replace hF := (if_pos hc).symm.trans hF
      refine z_iconst (n := 33) (v := 0) dX7_isMarked_32 rfl (by decide) ?_
      have hF := Option.some.inj hF; subst hF
      exact z_iret dX7_isMarked_33 rfl rfl ⟨rfl, rfl, rfl, rfl, rfl⟩
    · replace hF := (if_neg hc).symm.trans hF
      refine z_aload_n (n := 16) dX7_isMarked_15 rfl 0 rfl rfl ?_
      refine z_getRS (n := 19) dX7_isMarked_16 rfl zok6 fX7_65 rfl hM.1 (Or.inl (by decide)) (mF_14 hM) ?_
      refine z_aload_n (n := 20) dX7_isMarked_19 rfl 0 rfl rfl ?_
      refine z_getI (n := 23) dX7_isMarked_20 rfl zok6 fX7_170 rfl hM.1 (Or.inl (by decide)) ?_
      obtain ⟨h_1, hF⟩ := zg_some hF
      refine z_ialdK (n := 24) ((I 1860 20).toNatClampNeg) rfl dX7_isMarked_23 rfl (mK_14 hM) (zin_ok h_1) ?_
      refine z_iload_n (n := 25) dX7_isMarked_24 rfl 1 rfl rfl ?_
      refine z_icmp_ne (n := 28) (t := 32) dX7_isMarked_25 rfl (by decide) (fun hc => ?_) (fun hc => ?_)
      · replace hF := (if_pos hc).symm.trans hF
        refine z_iconst (n := 33) (v := 0) dX7_isMarked_32 rfl (by decide) ?_
        have hF := Option.some.inj hF; subst hF
        exact z_iret dX7_isMarked_33 rfl rfl ⟨rfl, rfl, rfl, rfl, rfl⟩
      · replace hF := (if_neg hc).symm.trans hF
        refine z_iconst (n := 29) (v := 1) dX7_isMarked_28 rfl (by decide) ?_
        refine z_goto (t := 33) dX7_isMarked_29 (by decide) ?_
        have hF := Option.some.inj hF; subst hF
        exact z_iret dX7_isMarked_33 rfl rfl ⟨rfl, rfl, rfl, rfl, rfl⟩
theorem fX7_29 : zFld RX7 29 6 2 := ⟨_, rfl, by decide, _, Or.inl q1679, Or.inl rfl⟩
theorem fX7_59 : zFld RX7 59 6 12 := ⟨_, rfl, by decide, _, Or.inl q1689, Or.inl rfl⟩
abbrev MX7_lay : zM := (RX7, cX7_lay, 2, none, "lay", [])
noncomputable def F_X7_lay (a0 : Int32) (I : zId) : Option (zId) := if (I 1860 22) = 0 then zg (zin ((700 : Int32) + (I 1862 15)) 1400) (zlet (zu I 1872 (((700 : Int32) + (I 1862 15)).toNatClampNeg) a0) (fun I_2 => zlet (zu I_2 1862 15 ((I_2 1862 15) + 1)) (fun I_4 => some I_4))) else some I
set_option maxHeartbeats 1000000 in
theorem C_X7_lay {l : Launch} {G : zGt} (htr : l.stackTraces = false) {K : zKd} {F : zFd} {L : zLd} {a0 : Int32} (hM : zMLay K F) {I : zId} {r : zId} (hF : F_X7_lay a0 I = some r) : zMet l G yX7_lay (ws_ yX7_lay cX7_lay 2 none) 0 0 0 0 [.ref 1860, .int a0] K F I L (zQe (.inl none) K F r L) := by
  refine zMet.of (by decide +kernel) htr (Nat.le_of_ble_eq_true rfl) ?_
  change zW l G MX7_lay 0 0 0 0 0 [(0, .ref 1860), (1, .int a0)] [] K F I L (zQe (.inl none) K F r L)
  unfold F_X7_lay at hF
  refine z_aload_n (n := 1) dX7_lay_0 rfl 0 rfl rfl ?_
  refine z_getI (n := 4) dX7_lay_1 rfl zok6 fX7_199 rfl hM.1 (Or.inl (by decide)) ?_
  refine z_if_eq (n := 7) (t := 8) dX7_lay_4 rfl (by decide) (fun hc => ?_) (fun hc => ?_)
  · replace hF := (if_pos hc).symm.trans hF
    refine z_aload_n (n := 9) dX7_lay_8 rfl 0 rfl rfl ?_
    refine z_getRS (n := 12) dX7_lay_9 rfl zok6 fX7_59 rfl hM.1 (Or.inl (by decide)) (mF_12 hM) ?_
    refine z_sipush (n := 15) (v := 700) dX7_lay_12 rfl (by decide) ?_
    refine z_aload_n (n := 16) dX7_lay_15 rfl 0 rfl rfl ?_
    refine z_getRS (n := 19) dX7_lay_16 rfl zok6 fX7_29 rfl hM.1 (Or.inl (by decide)) (mF_2 hM) ?_
    refine z_bipush (n := 21) (v := 15) dX7_lay_19 rfl (by decide) ?_
    refine z_ialdK (n := 22) 15 (by decide) dX7_lay_21 rfl (mK_2 hM) (zin_ok (i := 15) (n := 16) rfl) ?_
    refine z_iadd (n := 23) dX7_lay_22 rfl ?_
    refine z_iload_n (n := 24) dX7_lay_23 rfl 1 rfl rfl ?_
    obtain ⟨h_1, hF⟩ := zg_some hF
    obtain ⟨I_2, e_3, hF⟩ := zlet_ob hF
    refine z_iastK (n := 25) (((700 : Int32) + (I 1862 15)).toNatClampNeg) rfl dX7_lay_24 rfl (mK_12 hM) (by decide) (zin_ok h_1) e_3 ?_
    refine z_aload_n (n := 26) dX7_lay_25 rfl 0 rfl rfl ?_
    refine z_getRS (n := 29) dX7_lay_26 rfl zok6 fX7_29 rfl hM.1 (Or.inl (by decide)) (mF_2 hM) ?_
    refine z_bipush (n := 31) (v := 15) dX7_lay_29 rfl (by decide) ?_
    refine z_dup2 (n := 32) dX7_lay_31 rfl rfl rfl ?_
    refine z_ialdK (n := 33) 15 (by decide) dX7_lay_32 rfl (mK_2 hM) (zin_ok (i := 15) (n := 16) rfl) ?_
    refine z_iconst (n := 34) (v := 1) dX7_lay_33 rfl (by decide) ?_
    refine z_iadd (n := 35) dX7_lay_34 rfl ?_
    obtain ⟨I_4, e_5, hF⟩ := zlet_ob hF
    refine z_iastK (n := 36) 15 (by decide) dX7_lay_35 rfl (mK_2 hM) (by decide) (zin_ok (i := 15) (n := 16) rfl) e_5 ?_
    have hF := Option.some.inj hF; subst hF
    exact z_vret dX7_lay_36 rfl ⟨rfl, rfl, rfl, rfl, rfl⟩
  · replace hF := (if_neg hc).symm.trans hF
    have hF := Option.some.inj hF; subst hF
    exact z_vret dX7_lay_7 rfl ⟨rfl, rfl, rfl, rfl, rfl⟩
theorem hcee_X7_isMarked : zCee yX7_isMarked RX7 1 := ⟨rfl, by decide +kernel, by decide +kernel, by decide +kernel⟩
abbrev MX7_mark : zM := (RX7, cX7_mark, 2, none, "mark", [])
noncomputable def F_X7_mark (a0 : Int32) (I : zId) : Option (zId) := zlet (fun (I_1 : zId) => if ¬ (I_1 1860 22) = 0 then some I_1 else zb1 (F_X7_stepOn I_1) (fun I_6 => some I_6)) (fun k_2 => if ¬ (I 1860 22) = 0 then k_2 I else zb1 (F_X7_isMarked a0 I) (fun x_8 => if ¬ x_8 = 0 then k_2 I else zb1 (F_X7_wrong 1 I) (fun I_10 => k_2 I_10)))
set_option maxHeartbeats 1000000 in
theorem C_X7_mark {l : Launch} {G : zGt} (htr : l.stackTraces = false) {K : zKd} {F : zFd} {L : zLd} {a0 : Int32} (hM : zMLay K F) {I : zId} {r : zId} (hF : F_X7_mark a0 I = some r) : zMet l G yX7_mark (ws_ yX7_mark cX7_mark 2 none) 2 45 0 0 [.ref 1860, .int a0] K F I L (zQe (.inl none) K F r L) := by
  refine zMet.of (by decide +kernel) htr (Nat.le_of_ble_eq_true rfl) ?_
  change zW l G MX7_mark 2 45 0 0 0 [(0, .ref 1860), (1, .int a0)] [] K F I L (zQe (.inl none) K F r L)
  unfold F_X7_mark at hF
  refine z_aload_n (n := 1) dX7_mark_0 rfl 0 rfl rfl ?_
  refine z_getI (n := 4) dX7_mark_1 rfl zok6 fX7_199 rfl hM.1 (Or.inl (by decide)) ?_
  obtain ⟨k_2, e_3, hF⟩ := zlet_ob hF
  have H_4 : ∀ (I_1 : zId), k_2 I_1 = some r → zW l G MX7_mark 2 45 0 0 20 [(0, .ref 1860)] [] K F I_1 L (zQe (.inl none) K F r L) := by
    intro I_1 hF
    subst e_3
    dsimp only at hF
    refine z_aload_n (n := 21) dX7_mark_20 rfl 0 rfl rfl ?_
    refine z_getI (n := 24) dX7_mark_21 rfl zok6 fX7_199 rfl hM.1 (Or.inl (by decide)) ?_
    refine z_if_ne (n := 27) (t := 31) dX7_mark_24 rfl (by decide) (fun hc => ?_) (fun hc => ?_)
    · replace hF := (if_pos hc).symm.trans hF
      have hF := Option.some.inj hF; subst hF
      exact z_vret dX7_mark_31 rfl ⟨rfl, rfl, rfl, rfl, rfl⟩
    · replace hF := (if_neg hc).symm.trans hF
      refine z_aload_n (n := 28) dX7_mark_27 rfl 0 rfl rfl ?_
      obtain ⟨I_6, c_5, hF⟩ := zb1_some hF
      refine z_cV (n := 31) (st := []) (C_X7_stepOn htr hM c_5) dX7_mark_28 rfl (lw_V q1883 q1885 qs49 q131 q1886) hcee_X7_stepOn rfl (by decide) hM.1 rfl rfl rfl (Nat.le_of_ble_eq_true rfl) (Nat.le_refl _) (Nat.le_refl _) ?_
      have hF := Option.some.inj hF; subst hF
      exact z_vret dX7_mark_31 rfl ⟨rfl, rfl, rfl, rfl, rfl⟩
  clear e_3
  refine z_if_ne (n := 7) (t := 20) dX7_mark_4 rfl (by decide) (fun hc => ?_) (fun hc => ?_)
  · replace hF := (if_pos hc).symm.trans hF
    refine z_sub [0] rfl ?_
    exact H_4 _ hF
  · replace hF := (if_neg hc).symm.trans hF
    refine z_aload_n (n := 8) dX7_mark_7 rfl 0 rfl rfl ?_
    refine z_iload_n (n := 9) dX7_mark_8 rfl 1 rfl rfl ?_
    obtain ⟨x_8, c_7, hF⟩ := zb1_some hF
    refine z_cV (n := 12) (st := []) (C_X7_isMarked htr hM c_7) dX7_mark_9 rfl (lw_V q1932 q1934 qs57 q131 q1935) hcee_X7_isMarked rfl (by decide) hM.1 rfl rfl rfl (Nat.le_of_ble_eq_true rfl) (Nat.le_refl _) (Nat.le_refl _) ?_
    refine z_if_ne (n := 15) (t := 20) dX7_mark_12 rfl (by decide) (fun hc => ?_) (fun hc => ?_)
    · replace hF := (if_pos hc).symm.trans hF
      refine z_sub [0] rfl ?_
      exact H_4 _ hF
    · replace hF := (if_neg hc).symm.trans hF
      refine z_aload_n (n := 16) dX7_mark_15 rfl 0 rfl rfl ?_
      refine z_iconst (n := 17) (v := 1) dX7_mark_16 rfl (by decide) ?_
      obtain ⟨I_10, c_9, hF⟩ := zb1_some hF
      refine z_cV (n := 20) (st := []) (C_X7_wrong htr hM c_9) dX7_mark_17 rfl (lw_V q1916 q1918 qs53 q131 q1919) hcee_X7_wrong rfl (by decide) hM.1 rfl rfl rfl (Nat.le_of_ble_eq_true rfl) (Nat.le_refl _) (Nat.le_refl _) ?_
      refine z_sub [0] rfl ?_
      exact H_4 _ hF
abbrev MX7_another : zM := (RX7, cX7_another, 3, (some .boolean), "another", [])
noncomputable def F_X7_another (a0 : Int32) (a1 : Int32) (I : zId) : Option (Int32 × zId) := zg (zin ((8 : Int32) + a0) 16) (zlet (fun (I_2 : zId) => if (I_2 1860 22) = 0 then zb1 (F_X7_stepOn I_2) (fun I_7 => some (1, I_7)) else some (0, I_2)) (fun k_3 => if ¬ (I 1862 (((8 : Int32) + a0).toNatClampNeg)) = a1 then k_3 I else zb1 (F_X7_wrong 2 I) (fun I_9 => k_3 I_9)))
set_option maxHeartbeats 1000000 in
theorem C_X7_another {l : Launch} {G : zGt} (htr : l.stackTraces = false) {K : zKd} {F : zFd} {L : zLd} {a0 : Int32} {a1 : Int32} (hM : zMLay K F) {I : zId} {r : Int32 × zId} (hF : F_X7_another a0 a1 I = some r) : zMet l G yX7_another (ws_ yX7_another cX7_another 3 (some .boolean)) 2 45 0 0 [.ref 1860, .int a0, .int a1] K F I L (zQe (.inl (some (.int r.1))) K F r.2 L) := by
  refine zMet.of (by decide +kernel) htr (Nat.le_of_ble_eq_true rfl) ?_
  change zW l G MX7_another 2 45 0 0 0 [(0, .ref 1860), (1, .int a0), (2, .int a1)] [] K F I L (zQe (.inl (some (.int r.1))) K F r.2 L)
  unfold F_X7_another at hF
  refine z_aload_n (n := 1) dX7_another_0 rfl 0 rfl rfl ?_
  refine z_getRS (n := 4) dX7_another_1 rfl zok6 fX7_29 rfl hM.1 (Or.inl (by decide)) (mF_2 hM) ?_
  refine z_bipush (n := 6) (v := 8) dX7_another_4 rfl (by decide) ?_
  refine z_iload_n (n := 7) dX7_another_6 rfl 1 rfl rfl ?_
  refine z_iadd (n := 8) dX7_another_7 rfl ?_
  obtain ⟨h_1, hF⟩ := zg_some hF
  refine z_ialdK (n := 9) (((8 : Int32) + a0).toNatClampNeg) rfl dX7_another_8 rfl (mK_2 hM) (zin_ok h_1) ?_
  refine z_iload_n (n := 10) dX7_another_9 rfl 2 rfl rfl ?_
  obtain ⟨k_3, e_4, hF⟩ := zlet_ob hF
  have H_5 : ∀ (I_2 : zId), k_3 I_2 = some r → zW l G MX7_another 2 45 0 0 18 [(0, .ref 1860)] [] K F I_2 L (zQe (.inl (some (.int r.1))) K F r.2 L) := by
    intro I_2 hF
    subst e_4
    dsimp only at hF
    refine z_aload_n (n := 19) dX7_another_18 rfl 0 rfl rfl ?_
    refine z_getI (n := 22) dX7_another_19 rfl zok6 fX7_199 rfl hM.1 (Or.inl (by decide)) ?_
    refine z_if_eq (n := 25) (t := 27) dX7_another_22 rfl (by decide) (fun hc => ?_) (fun hc => ?_)
    · replace hF := (if_pos hc).symm.trans hF
      refine z_aload_n (n := 28) dX7_another_27 rfl 0 rfl rfl ?_
      obtain ⟨I_7, c_6, hF⟩ := zb1_some hF
      refine z_cV (n := 31) (st := []) (C_X7_stepOn htr hM c_6) dX7_another_28 rfl (lw_V q1883 q1885 qs49 q131 q1886) hcee_X7_stepOn rfl (by decide) hM.1 rfl rfl rfl (Nat.le_of_ble_eq_true rfl) (Nat.le_refl _) (Nat.le_refl _) ?_
      refine z_iconst (n := 32) (v := 1) dX7_another_31 rfl (by decide) ?_
      have hF := Option.some.inj hF; subst hF
      exact z_iret dX7_another_32 rfl rfl ⟨rfl, rfl, rfl, rfl, rfl⟩
    · replace hF := (if_neg hc).symm.trans hF
      refine z_iconst (n := 26) (v := 0) dX7_another_25 rfl (by decide) ?_
      have hF := Option.some.inj hF; subst hF
      exact z_iret dX7_another_26 rfl rfl ⟨rfl, rfl, rfl, rfl, rfl⟩
  clear e_4
  refine z_icmp_ne (n := 13) (t := 18) dX7_another_10 rfl (by decide) (fun hc => ?_) (fun hc => ?_)
  · replace hF := (if_pos hc).symm.trans hF
    refine z_sub [0] rfl ?_
    exact H_5 _ hF
  · replace hF := (if_neg hc).symm.trans hF
    refine z_aload_n (n := 14) dX7_another_13 rfl 0 rfl rfl ?_
    refine z_iconst (n := 15) (v := 2) dX7_another_14 rfl (by decide) ?_
    obtain ⟨I_9, c_8, hF⟩ := zb1_some hF
    refine z_cV (n := 18) (st := []) (C_X7_wrong htr hM c_8) dX7_another_15 rfl (lw_V q1916 q1918 qs53 q131 q1919) hcee_X7_wrong rfl (by decide) hM.1 rfl rfl rfl (Nat.le_of_ble_eq_true rfl) (Nat.le_refl _) (Nat.le_refl _) ?_
    refine z_sub [0] rfl ?_
    exact H_5 _ hF
theorem fX7_33 : zFld RX7 33 6 3 := ⟨_, rfl, by decide, _, Or.inl q1680, Or.inl rfl⟩
theorem fX7_36 : zFld RX7 36 6 4 := ⟨_, rfl, by decide, _, Or.inl q1681, Or.inl rfl⟩
theorem fX7_39 : zFld RX7 39 6 5 := ⟨_, rfl, by decide, _, Or.inl q1682, Or.inl rfl⟩
theorem fX7_42 : zFld RX7 42 6 6 := ⟨_, rfl, by decide, _, Or.inl q1683, Or.inl rfl⟩
theorem hcee_X7_another : zCee yX7_another RX7 2 := ⟨rfl, by decide +kernel, by decide +kernel, by decide +kernel⟩
theorem hcee_X7_readNumber : zCee yX7_readNumber RX7 2 := ⟨rfl, by decide +kernel, by decide +kernel, by decide +kernel⟩
abbrev MX7_sayForest : zM := (RX7, cX7_sayForest, 2, none, "sayForest", [])
noncomputable def F_X7_sayForest (I : zId) : Option (zId) := zb2 (F_X7_another 0 8 I) (fun x_2 I_3 => if ¬ x_2 = 0 then zlet ((8 : Int32) + (I_3 1862 8)) (fun v1_4 => zb2 (F_X7_readNumber 0 999 I_3) (fun x_7 I_8 => zg (zin v1_4 16) (zlet (zu I_8 1863 v1_4.toNatClampNeg x_7) (fun I_10 => zg (zin v1_4 16) (zb2 (F_X7_readNumber 0 (I_10 1863 v1_4.toNatClampNeg) I_10) (fun x_14 I_15 => zg (zin v1_4 16) (zlet (zu I_15 1864 v1_4.toNatClampNeg x_14) (fun I_17 => zb2 (F_X7_readNumber 1 999 I_17) (fun x_20 I_21 => zg (zin v1_4 16) (zlet (zu I_21 1865 v1_4.toNatClampNeg x_20) (fun I_23 => zb2 (F_X7_readNumber 0 99 I_23) (fun x_26 I_27 => zg (zin v1_4 16) (zlet (zu I_27 1866 v1_4.toNatClampNeg x_26) (fun I_29 => zlet (zu I_29 1862 8 ((I_29 1862 8) + 1)) (fun I_31 => some I_31))))))))))))))) else some I_3)
set_option maxHeartbeats 1000000 in
theorem C_X7_sayForest {l : Launch} {G : zGt} (htr : l.stackTraces = false) {K : zKd} {F : zFd} {L : zLd} (hM : zMLay K F) {I : zId} {r : zId} (hF : F_X7_sayForest I = some r) : zMet l G yX7_sayForest (ws_ yX7_sayForest cX7_sayForest 2 none) 3 68 0 0 [.ref 1860] K F I L (zQe (.inl none) K F r L) := by
  refine zMet.of (by decide +kernel) htr (Nat.le_of_ble_eq_true rfl) ?_
  change zW l G MX7_sayForest 3 68 0 0 0 [(0, .ref 1860)] [] K F I L (zQe (.inl none) K F r L)
  unfold F_X7_sayForest at hF
  refine z_aload_n (n := 1) dX7_sayForest_0 rfl 0 rfl rfl ?_
  refine z_iconst (n := 2) (v := 0) dX7_sayForest_1 rfl (by decide) ?_
  refine z_bipush (n := 4) (v := 8) dX7_sayForest_2 rfl (by decide) ?_
  obtain ⟨x_2, I_3, c_1, hF⟩ := zb2_some hF
  refine z_cV (n := 7) (st := []) (C_X7_another htr hM c_1) dX7_sayForest_4 rfl (lw_V q1976 q1978 qs67 q131 q1979) hcee_X7_another rfl (by decide) hM.1 rfl rfl rfl (Nat.le_of_ble_eq_true rfl) (Nat.le_refl _) (Nat.le_refl _) ?_
  refine z_if_ne (n := 10) (t := 11) dX7_sayForest_7 rfl (by decide) (fun hc => ?_) (fun hc => ?_)
  · replace hF := (if_pos hc).symm.trans hF
    refine z_bipush (n := 13) (v := 8) dX7_sayForest_11 rfl (by decide) ?_
    refine z_aload_n (n := 14) dX7_sayForest_13 rfl 0 rfl rfl ?_
    refine z_getRS (n := 17) dX7_sayForest_14 rfl zok6 fX7_29 rfl hM.1 (Or.inl (by decide)) (mF_2 hM) ?_
    refine z_bipush (n := 19) (v := 8) dX7_sayForest_17 rfl (by decide) ?_
    refine z_ialdK (n := 20) 8 (by decide) dX7_sayForest_19 rfl (mK_2 hM) (zin_ok (i := 8) (n := 16) rfl) ?_
    refine z_iadd (n := 21) dX7_sayForest_20 rfl ?_
    obtain ⟨v1_4, e_5, hF⟩ := zlet_ob hF
    refine z_istore_nE (n := 22) (lv' := [(1, .int v1_4), (0, .ref 1860)]) dX7_sayForest_21 rfl e_5 rfl (by decide) rfl ?_
    refine z_aload_n (n := 23) dX7_sayForest_22 rfl 1 rfl rfl ?_
    refine z_getRS (n := 26) dX7_sayForest_23 rfl zok6 fX7_33 rfl hM.1 (Or.inl (by decide)) (mF_3 hM) ?_
    refine z_iload_n (n := 27) dX7_sayForest_26 rfl 0 rfl rfl ?_
    refine z_aload_n (n := 28) dX7_sayForest_27 rfl 1 rfl rfl ?_
    refine z_iconst (n := 29) (v := 0) dX7_sayForest_28 rfl (by decide) ?_
    refine z_sipush (n := 32) (v := 999) dX7_sayForest_29 rfl (by decide) ?_
    obtain ⟨x_7, I_8, c_6, hF⟩ := zb2_some hF
    refine z_cV (n := 35) (st := [.int v1_4, .ref 1863]) (C_X7_readNumber htr hM c_6) dX7_sayForest_32 rfl (lw_V q1920 q1922 qs54 q131 q1923) hcee_X7_readNumber rfl (by decide) hM.1 rfl rfl rfl (Nat.le_of_ble_eq_true rfl) (Nat.le_refl _) (Nat.le_refl _) ?_
    obtain ⟨h_9, hF⟩ := zg_some hF
    obtain ⟨I_10, e_11, hF⟩ := zlet_ob hF
    refine z_iastK (n := 36) v1_4.toNatClampNeg rfl dX7_sayForest_35 rfl (mK_3 hM) (by decide) (zin_ok h_9) e_11 ?_
    refine z_aload_n (n := 37) dX7_sayForest_36 rfl 1 rfl rfl ?_
    refine z_getRS (n := 40) dX7_sayForest_37 rfl zok6 fX7_36 rfl hM.1 (Or.inl (by decide)) (mF_4 hM) ?_
    refine z_iload_n (n := 41) dX7_sayForest_40 rfl 0 rfl rfl ?_
    refine z_aload_n (n := 42) dX7_sayForest_41 rfl 1 rfl rfl ?_
    refine z_iconst (n := 43) (v := 0) dX7_sayForest_42 rfl (by decide) ?_
    refine z_aload_n (n := 44) dX7_sayForest_43 rfl 1 rfl rfl ?_
    refine z_getRS (n := 47) dX7_sayForest_44 rfl zok6 fX7_33 rfl hM.1 (Or.inl (by decide)) (mF_3 hM) ?_
    refine z_iload_n (n := 48) dX7_sayForest_47 rfl 0 rfl rfl ?_
    obtain ⟨h_12, hF⟩ := zg_some hF
    refine z_ialdK (n := 49) v1_4.toNatClampNeg rfl dX7_sayForest_48 rfl (mK_3 hM) (zin_ok h_12) ?_
    obtain ⟨x_14, I_15, c_13, hF⟩ := zb2_some hF
    refine z_cV (n := 52) (st := [.int v1_4, .ref 1864]) (C_X7_readNumber htr hM c_13) dX7_sayForest_49 rfl (lw_V q1920 q1922 qs54 q131 q1923) hcee_X7_readNumber rfl (by decide) hM.1 rfl rfl rfl (Nat.le_of_ble_eq_true rfl) (Nat.le_refl _) (Nat.le_refl _) ?_
    obtain ⟨h_16, hF⟩ := zg_some hF
    obtain ⟨I_17, e_18, hF⟩ := zlet_ob hF
    refine z_iastK (n := 53) v1_4.toNatClampNeg rfl dX7_sayForest_52 rfl (mK_4 hM) (by decide) (zin_ok h_16) e_18 ?_
    refine z_aload_n (n := 54) dX7_sayForest_53 rfl 1 rfl rfl ?_
    refine z_getRS (n := 57) dX7_sayForest_54 rfl zok6 fX7_39 rfl hM.1 (Or.inl (by decide)) (mF_5 hM) ?_
    refine z_iload_n (n := 58) dX7_sayForest_57 rfl 0 rfl rfl ?_
    refine z_aload_n (n := 59) dX7_sayForest_58 rfl 1 rfl rfl ?_
    refine z_iconst (n := 60) (v := 1) dX7_sayForest_59 rfl (by decide) ?_
    refine z_sipush (n := 63) (v := 999) dX7_sayForest_60 rfl (by decide) ?_
    obtain ⟨x_20, I_21, c_19, hF⟩ := zb2_some hF
    refine z_cV (n := 66) (st := [.int v1_4, .ref 1865]) (C_X7_readNumber htr hM c_19) dX7_sayForest_63 rfl (lw_V q1920 q1922 qs54 q131 q1923) hcee_X7_readNumber rfl (by decide) hM.1 rfl rfl rfl (Nat.le_of_ble_eq_true rfl) (Nat.le_refl _) (Nat.le_refl _) ?_
    obtain ⟨h_22, hF⟩ := zg_some hF
    obtain ⟨I_23, e_24, hF⟩ := zlet_ob hF
    refine z_iastK (n := 67) v1_4.toNatClampNeg rfl dX7_sayForest_66 rfl (mK_5 hM) (by decide) (zin_ok h_22) e_24 ?_
    refine z_aload_n (n := 68) dX7_sayForest_67 rfl 1 rfl rfl ?_
    refine z_getRS (n := 71) dX7_sayForest_68 rfl zok6 fX7_42 rfl hM.1 (Or.inl (by decide)) (mF_6 hM) ?_
    refine z_iload_n (n := 72) dX7_sayForest_71 rfl 0 rfl rfl ?_
    refine z_aload_n (n := 73) dX7_sayForest_72 rfl 1 rfl rfl ?_
    refine z_iconst (n := 74) (v := 0) dX7_sayForest_73 rfl (by decide) ?_
    refine z_bipush (n := 76) (v := 99) dX7_sayForest_74 rfl (by decide) ?_
    obtain ⟨x_26, I_27, c_25, hF⟩ := zb2_some hF
    refine z_cV (n := 79) (st := [.int v1_4, .ref 1866]) (C_X7_readNumber htr hM c_25) dX7_sayForest_76 rfl (lw_V q1920 q1922 qs54 q131 q1923) hcee_X7_readNumber rfl (by decide) hM.1 rfl rfl rfl (Nat.le_of_ble_eq_true rfl) (Nat.le_refl _) (Nat.le_refl _) ?_
    obtain ⟨h_28, hF⟩ := zg_some hF
    obtain ⟨I_29, e_30, hF⟩ := zlet_ob hF
    refine z_iastK (n := 80) v1_4.toNatClampNeg rfl dX7_sayForest_79 rfl (mK_6 hM) (by decide) (zin_ok h_28) e_30 ?_
    refine z_aload_n (n := 81) dX7_sayForest_80 rfl 1 rfl rfl ?_
    refine z_getRS (n := 84) dX7_sayForest_81 rfl zok6 fX7_29 rfl hM.1 (Or.inl (by decide)) (mF_2 hM) ?_
    refine z_bipush (n := 86) (v := 8) dX7_sayForest_84 rfl (by decide) ?_
    refine z_dup2 (n := 87) dX7_sayForest_86 rfl rfl rfl ?_
    refine z_ialdK (n := 88) 8 (by decide) dX7_sayForest_87 rfl (mK_2 hM) (zin_ok (i := 8) (n := 16) rfl) ?_
    refine z_iconst (n := 89) (v := 1) dX7_sayForest_88 rfl (by decide) ?_
    refine z_iadd (n := 90) dX7_sayForest_89 rfl ?_
    obtain ⟨I_31, e_32, hF⟩ := zlet_ob hF
    refine z_iastK (n := 91) 8 (by decide) dX7_sayForest_90 rfl (mK_2 hM) (by decide) (zin_ok (i := 8) (n := 16) rfl) e_32 ?_
    have hF := Option.some.inj hF; subst hF
    exact z_vret dX7_sayForest_91 rfl ⟨rfl, rfl, rfl, rfl, rfl⟩
  · replace hF := (if_neg hc).symm.trans hF
    have hF := Option.some.inj hF; subst hF
    exact z_vret dX7_sayForest_10 rfl ⟨rfl, rfl, rfl, rfl, rfl⟩
abbrev MX7_forestNow : zM := (RX7, cX7_forestNow, 2, (some .int), "forestNow", [])
noncomputable def F_X7_forestNow (I : zId) : Option (Int32 × zId) := zb2 (F_X7_numberNow 0 9999 I) (fun x_2 I_3 => zlet (fun (I_4 : zId) => if ¬ (I_4 1860 22) = 0 then some (0, I_4) else some (x_2, I_4)) (fun k_5 => if ¬ (I_3 1860 22) = 0 then k_5 I_3 else if x_2 < (I_3 1862 8) then k_5 I_3 else zb1 (F_X7_wrong 3 I_3) (fun I_9 => k_5 I_9)))
set_option maxHeartbeats 1000000 in
theorem C_X7_forestNow {l : Launch} {G : zGt} (htr : l.stackTraces = false) {K : zKd} {F : zFd} {L : zLd} (hM : zMLay K F) {I : zId} {r : Int32 × zId} (hF : F_X7_forestNow I = some r) : zMet l G yX7_forestNow (ws_ yX7_forestNow cX7_forestNow 2 (some .int)) 2 43 0 0 [.ref 1860] K F I L (zQe (.inl (some (.int r.1))) K F r.2 L) := by
  refine zMet.of (by decide +kernel) htr (Nat.le_of_ble_eq_true rfl) ?_
  change zW l G MX7_forestNow 2 43 0 0 0 [(0, .ref 1860)] [] K F I L (zQe (.inl (some (.int r.1))) K F r.2 L)
  unfold F_X7_forestNow at hF
  refine z_aload_n (n := 1) dX7_forestNow_0 rfl 0 rfl rfl ?_
  refine z_iconst (n := 2) (v := 0) dX7_forestNow_1 rfl (by decide) ?_
  refine z_sipush (n := 5) (v := 9999) dX7_forestNow_2 rfl (by decide) ?_
  obtain ⟨x_2, I_3, c_1, hF⟩ := zb2_some hF
  refine z_cV (n := 8) (st := []) (C_X7_numberNow htr hM c_1) dX7_forestNow_5 rfl (lw_V q1924 q1926 qs55 q131 q1927) hcee_X7_numberNow rfl (by decide) hM.1 rfl rfl rfl (Nat.le_of_ble_eq_true rfl) (Nat.le_refl _) (Nat.le_refl _) ?_
  refine z_istore_nE (n := 9) (lv' := [(1, .int x_2), (0, .ref 1860)]) dX7_forestNow_8 rfl rfl rfl (by decide) rfl ?_
  refine z_aload_n (n := 10) dX7_forestNow_9 rfl 1 rfl rfl ?_
  refine z_getI (n := 13) dX7_forestNow_10 rfl zok6 fX7_199 rfl hM.1 (Or.inl (by decide)) ?_
  obtain ⟨k_5, e_6, hF⟩ := zlet_ob hF
  have H_7 : ∀ (I_4 : zId), k_5 I_4 = some r → zW l G MX7_forestNow 2 43 0 0 32 [(0, .ref 1860), (1, .int x_2)] [] K F I_4 L (zQe (.inl (some (.int r.1))) K F r.2 L) := by
    intro I_4 hF
    subst e_6
    dsimp only at hF
    refine z_aload_n (n := 33) dX7_forestNow_32 rfl 0 rfl rfl ?_
    refine z_getI (n := 36) dX7_forestNow_33 rfl zok6 fX7_199 rfl hM.1 (Or.inl (by decide)) ?_
    refine z_if_ne (n := 39) (t := 43) dX7_forestNow_36 rfl (by decide) (fun hc => ?_) (fun hc => ?_)
    · replace hF := (if_pos hc).symm.trans hF
      refine z_iconst (n := 44) (v := 0) dX7_forestNow_43 rfl (by decide) ?_
      have hF := Option.some.inj hF; subst hF
      exact z_iret dX7_forestNow_44 rfl rfl ⟨rfl, rfl, rfl, rfl, rfl⟩
    · replace hF := (if_neg hc).symm.trans hF
      refine z_iload_n (n := 40) dX7_forestNow_39 rfl 1 rfl rfl ?_
      refine z_goto (t := 44) dX7_forestNow_40 (by decide) ?_
      have hF := Option.some.inj hF; subst hF
      exact z_iret dX7_forestNow_44 rfl rfl ⟨rfl, rfl, rfl, rfl, rfl⟩
  clear e_6
  refine z_if_ne (n := 16) (t := 32) dX7_forestNow_13 rfl (by decide) (fun hc => ?_) (fun hc => ?_)
  · replace hF := (if_pos hc).symm.trans hF
    refine z_sub [1, 0] rfl ?_
    exact H_7 _ hF
  · replace hF := (if_neg hc).symm.trans hF
    refine z_iload_n (n := 17) dX7_forestNow_16 rfl 0 rfl rfl ?_
    refine z_aload_n (n := 18) dX7_forestNow_17 rfl 1 rfl rfl ?_
    refine z_getRS (n := 21) dX7_forestNow_18 rfl zok6 fX7_29 rfl hM.1 (Or.inl (by decide)) (mF_2 hM) ?_
    refine z_bipush (n := 23) (v := 8) dX7_forestNow_21 rfl (by decide) ?_
    refine z_ialdK (n := 24) 8 (by decide) dX7_forestNow_23 rfl (mK_2 hM) (zin_ok (i := 8) (n := 16) rfl) ?_
    refine z_icmp_lt (n := 27) (t := 32) dX7_forestNow_24 rfl (by decide) (fun hc => ?_) (fun hc => ?_)
    · replace hF := (if_pos hc).symm.trans hF
      refine z_sub [1, 0] rfl ?_
      exact H_7 _ hF
    · replace hF := (if_neg hc).symm.trans hF
      refine z_aload_n (n := 28) dX7_forestNow_27 rfl 1 rfl rfl ?_
      refine z_iconst (n := 29) (v := 3) dX7_forestNow_28 rfl (by decide) ?_
      obtain ⟨I_9, c_8, hF⟩ := zb1_some hF
      refine z_cV (n := 32) (st := []) (C_X7_wrong htr hM c_8) dX7_forestNow_29 rfl (lw_V q1916 q1918 qs53 q131 q1919) hcee_X7_wrong rfl (by decide) hM.1 rfl rfl rfl (Nat.le_of_ble_eq_true rfl) (Nat.le_refl _) (Nat.le_refl _) ?_
      refine z_sub [1, 0] rfl ?_
      exact H_7 _ hF
theorem hcee_X7_forestNow : zCee yX7_forestNow RX7 0 := ⟨rfl, by decide +kernel, by decide +kernel, by decide +kernel⟩
abbrev MX7_readForest : zM := (RX7, cX7_readForest, 2, (some .int), "readForest", [])
noncomputable def F_X7_readForest (I : zId) : Option (Int32 × zId) := zb2 (F_X7_forestNow I) (fun x_2 I_3 => if ¬ (I_3 1860 22) = 0 then some (x_2, I_3) else zb1 (F_X7_stepOn I_3) (fun I_5 => some (x_2, I_5)))
set_option maxHeartbeats 1000000 in
theorem C_X7_readForest {l : Launch} {G : zGt} (htr : l.stackTraces = false) {K : zKd} {F : zFd} {L : zLd} (hM : zMLay K F) {I : zId} {r : Int32 × zId} (hF : F_X7_readForest I = some r) : zMet l G yX7_readForest (ws_ yX7_readForest cX7_readForest 2 (some .int)) 3 64 0 0 [.ref 1860] K F I L (zQe (.inl (some (.int r.1))) K F r.2 L) := by
  refine zMet.of (by decide +kernel) htr (Nat.le_of_ble_eq_true rfl) ?_
  change zW l G MX7_readForest 3 64 0 0 0 [(0, .ref 1860)] [] K F I L (zQe (.inl (some (.int r.1))) K F r.2 L)
  unfold F_X7_readForest at hF
  refine z_aload_n (n := 1) dX7_readForest_0 rfl 0 rfl rfl ?_
  obtain ⟨x_2, I_3, c_1, hF⟩ := zb2_some hF
  refine z_cV (n := 4) (st := []) (C_X7_forestNow htr hM c_1) dX7_readForest_1 rfl (lw_V q1989 q1991 qs70 q131 q1992) hcee_X7_forestNow rfl (by decide) hM.1 rfl rfl rfl (Nat.le_of_ble_eq_true rfl) (Nat.le_refl _) (Nat.le_refl _) ?_
  refine z_istore_nE (n := 5) (lv' := [(1, .int x_2), (0, .ref 1860)]) dX7_readForest_4 rfl rfl rfl (by decide) rfl ?_
  refine z_aload_n (n := 6) dX7_readForest_5 rfl 1 rfl rfl ?_
  refine z_getI (n := 9) dX7_readForest_6 rfl zok6 fX7_199 rfl hM.1 (Or.inl (by decide)) ?_
  refine z_if_ne (n := 12) (t := 16) dX7_readForest_9 rfl (by decide) (fun hc => ?_) (fun hc => ?_)
  · replace hF := (if_pos hc).symm.trans hF
    refine z_iload_n (n := 17) dX7_readForest_16 rfl 0 rfl rfl ?_
    have hF := Option.some.inj hF; subst hF
    exact z_iret dX7_readForest_17 rfl rfl ⟨rfl, rfl, rfl, rfl, rfl⟩
  · replace hF := (if_neg hc).symm.trans hF
    refine z_aload_n (n := 13) dX7_readForest_12 rfl 1 rfl rfl ?_
    obtain ⟨I_5, c_4, hF⟩ := zb1_some hF
    refine z_cV (n := 16) (st := []) (C_X7_stepOn htr hM c_4) dX7_readForest_13 rfl (lw_V q1883 q1885 qs49 q131 q1886) hcee_X7_stepOn rfl (by decide) hM.1 rfl rfl rfl (Nat.le_of_ble_eq_true rfl) (Nat.le_refl _) (Nat.le_refl _) ?_
    refine z_iload_n (n := 17) dX7_readForest_16 rfl 0 rfl rfl ?_
    have hF := Option.some.inj hF; subst hF
    exact z_iret dX7_readForest_17 rfl rfl ⟨rfl, rfl, rfl, rfl, rfl⟩
theorem fX7_45 : zFld RX7 45 6 7 := ⟨_, rfl, by decide, _, Or.inl q1684, Or.inl rfl⟩
theorem hcee_X7_readForest : zCee yX7_readForest RX7 0 := ⟨rfl, by decide +kernel, by decide +kernel, by decide +kernel⟩
abbrev MX7_sayRiver : zM := (RX7, cX7_sayRiver, 5, none, "sayRiver", [])
noncomputable def F_X7_sayRiver (I : zId) : Option (zId) := zb2 (F_X7_another 1 12 I) (fun x_2 I_3 => if ¬ x_2 = 0 then zb2 (F_X7_readForest I_3) (fun x_5 I_6 => zb2 (F_X7_forestNow I_6) (fun x_8 I_9 => zlet (fun (I_10 : zId) => zlet (fun (I_14 : zId) => zb2 (F_X7_readNumber 1 30 I_14) (fun x_19 I_20 => if (I_20 1860 22) = 0 then zg (zin (((64 : Int32) + ((8 : Int32) * x_5)) + x_8) 128) (zlet (zu I_20 1867 ((((64 : Int32) + ((8 : Int32) * x_5)) + x_8).toNatClampNeg) x_19) (fun I_22 => zg (zin (((64 : Int32) + ((8 : Int32) * x_8)) + x_5) 128) (zlet (zu I_22 1867 ((((64 : Int32) + ((8 : Int32) * x_8)) + x_5).toNatClampNeg) x_19) (fun I_25 => zlet (zu I_25 1862 9 ((I_25 1862 9) + 1)) (fun I_27 => some I_27))))) else some I_20)) (fun k_15 => if ¬ (I_10 1860 22) = 0 then k_15 I_10 else zb1 (F_X7_stepOn I_10) (fun I_30 => k_15 I_30))) (fun k_11 => if ¬ (I_9 1860 22) = 0 then k_11 I_9 else if x_5 = x_8 then zb1 (F_X7_wrong 4 I_9) (fun I_32 => k_11 I_32) else zg (zin (((64 : Int32) + ((8 : Int32) * x_5)) + x_8) 128) (if (I_9 1867 ((((64 : Int32) + ((8 : Int32) * x_5)) + x_8).toNatClampNeg)) = 0 then k_11 I_9 else zb1 (F_X7_wrong 4 I_9) (fun I_35 => k_11 I_35))))) else some I_3)
set_option maxHeartbeats 1000000 in
theorem C_X7_sayRiver {l : Launch} {G : zGt} (htr : l.stackTraces = false) {K : zKd} {F : zFd} {L : zLd} (hM : zMLay K F) {I : zId} {r : zId} (hF : F_X7_sayRiver I = some r) : zMet l G yX7_sayRiver (ws_ yX7_sayRiver cX7_sayRiver 5 none) 4 85 0 0 [.ref 1860] K F I L (zQe (.inl none) K F r L) := by
  refine zMet.of (by decide +kernel) htr (Nat.le_of_ble_eq_true rfl) ?_
  change zW l G MX7_sayRiver 4 85 0 0 0 [(0, .ref 1860)] [] K F I L (zQe (.inl none) K F r L)
  unfold F_X7_sayRiver at hF
  refine z_aload_n (n := 1) dX7_sayRiver_0 rfl 0 rfl rfl ?_
  refine z_iconst (n := 2) (v := 1) dX7_sayRiver_1 rfl (by decide) ?_
  refine z_bipush (n := 4) (v := 12) dX7_sayRiver_2 rfl (by decide) ?_
  obtain ⟨x_2, I_3, c_1, hF⟩ := zb2_some hF
  refine z_cV (n := 7) (st := []) (C_X7_another htr hM c_1) dX7_sayRiver_4 rfl (lw_V q1976 q1978 qs67 q131 q1979) hcee_X7_another rfl (by decide) hM.1 rfl rfl rfl (Nat.le_of_ble_eq_true rfl) (Nat.le_refl _) (Nat.le_refl _) ?_
  refine z_if_ne (n := 10) (t := 11) dX7_sayRiver_7 rfl (by decide) (fun hc => ?_) (fun hc => ?_)
  · replace hF := (if_pos hc).symm.trans hF
    refine z_aload_n (n := 12) dX7_sayRiver_11 rfl 0 rfl rfl ?_
    obtain ⟨x_5, I_6, c_4, hF⟩ := zb2_some hF
    refine z_cV (n := 15) (st := []) (C_X7_readForest htr hM c_4) dX7_sayRiver_12 rfl (lw_V q1985 q1987 qs69 q131 q1988) hcee_X7_readForest rfl (by decide) hM.1 rfl rfl rfl (Nat.le_of_ble_eq_true rfl) (Nat.le_refl _) (Nat.le_refl _) ?_
    refine z_istore_nE (n := 16) (lv' := [(1, .int x_5), (0, .ref 1860)]) dX7_sayRiver_15 rfl rfl rfl (by decide) rfl ?_
    refine z_aload_n (n := 17) dX7_sayRiver_16 rfl 1 rfl rfl ?_
    obtain ⟨x_8, I_9, c_7, hF⟩ := zb2_some hF
    refine z_cV (n := 20) (st := []) (C_X7_forestNow htr hM c_7) dX7_sayRiver_17 rfl (lw_V q1989 q1991 qs70 q131 q1992) hcee_X7_forestNow rfl (by decide) hM.1 rfl rfl rfl (Nat.le_of_ble_eq_true rfl) (Nat.le_refl _) (Nat.le_refl _) ?_
    refine z_istore_nE (n := 21) (lv' := [(2, .int x_8), (1, .int x_5), (0, .ref 1860)]) dX7_sayRiver_20 rfl rfl rfl (by decide) rfl ?_
    refine z_bipush (n := 23) (v := 64) dX7_sayRiver_21 rfl (by decide) ?_
    refine z_istore_nE (n := 24) (lv' := [(3, .int 64), (2, .int x_8), (1, .int x_5), (0, .ref 1860)]) dX7_sayRiver_23 rfl rfl rfl (by decide) rfl ?_
    refine z_aload_n (n := 25) dX7_sayRiver_24 rfl 3 rfl rfl ?_
    refine z_getI (n := 28) dX7_sayRiver_25 rfl zok6 fX7_199 rfl hM.1 (Or.inl (by decide)) ?_
    obtain ⟨k_11, e_12, hF⟩ := zlet_ob hF
    have H_13 : ∀ (I_10 : zId), k_11 I_10 = some r → zW l G MX7_sayRiver 4 85 0 0 57 [(0, .ref 1860), (1, .int x_5), (2, .int x_8), (3, .int 64)] [] K F I_10 L (zQe (.inl none) K F r L) := by
      intro I_10 hF
      subst e_12
      dsimp only at hF
      refine z_aload_n (n := 58) dX7_sayRiver_57 rfl 0 rfl rfl ?_
      refine z_getI (n := 61) dX7_sayRiver_58 rfl zok6 fX7_199 rfl hM.1 (Or.inl (by decide)) ?_
      obtain ⟨k_15, e_16, hF⟩ := zlet_ob hF
      have H_17 : ∀ (I_14 : zId), k_15 I_14 = some r → zW l G MX7_sayRiver 4 85 0 0 68 [(0, .ref 1860), (1, .int x_5), (2, .int x_8), (3, .int 64)] [] K F I_14 L (zQe (.inl none) K F r L) := by
        intro I_14 hF
        subst e_16
        dsimp only at hF
        refine z_aload_n (n := 69) dX7_sayRiver_68 rfl 0 rfl rfl ?_
        refine z_iconst (n := 70) (v := 1) dX7_sayRiver_69 rfl (by decide) ?_
        refine z_bipush (n := 72) (v := 30) dX7_sayRiver_70 rfl (by decide) ?_
        obtain ⟨x_19, I_20, c_18, hF⟩ := zb2_some hF
        refine z_cV (n := 75) (st := []) (C_X7_readNumber htr hM c_18) dX7_sayRiver_72 rfl (lw_V q1920 q1922 qs54 q131 q1923) hcee_X7_readNumber rfl (by decide) hM.1 rfl rfl rfl (Nat.le_of_ble_eq_true rfl) (Nat.le_refl _) (Nat.le_refl _) ?_
        refine z_istoreE (n := 77) (lv' := [(4, .int x_19), (0, .ref 1860), (1, .int x_5), (2, .int x_8), (3, .int 64)]) dX7_sayRiver_75 rfl rfl (by decide) rfl ?_
        refine z_aload_n (n := 78) dX7_sayRiver_77 rfl 1 rfl rfl ?_
        refine z_getI (n := 81) dX7_sayRiver_78 rfl zok6 fX7_199 rfl hM.1 (Or.inl (by decide)) ?_
        refine z_if_eq (n := 84) (t := 85) dX7_sayRiver_81 rfl (by decide) (fun hc => ?_) (fun hc => ?_)
        · replace hF := (if_pos hc).symm.trans hF
          refine z_aload_n (n := 86) dX7_sayRiver_85 rfl 1 rfl rfl ?_
          refine z_getRS (n := 89) dX7_sayRiver_86 rfl zok6 fX7_45 rfl hM.1 (Or.inl (by decide)) (mF_7 hM) ?_
          refine z_iload_n (n := 90) dX7_sayRiver_89 rfl 4 rfl rfl ?_
          refine z_bipush (n := 92) (v := 8) dX7_sayRiver_90 rfl (by decide) ?_
          refine z_iload_n (n := 93) dX7_sayRiver_92 rfl 2 rfl rfl ?_
          refine z_imul (n := 94) dX7_sayRiver_93 rfl ?_
          refine z_iadd (n := 95) dX7_sayRiver_94 rfl ?_
          refine z_iload_n (n := 96) dX7_sayRiver_95 rfl 3 rfl rfl ?_
          refine z_iadd (n := 97) dX7_sayRiver_96 rfl ?_
          refine z_iload (n := 99) dX7_sayRiver_97 rfl 0 rfl ?_
          obtain ⟨h_21, hF⟩ := zg_some hF
          obtain ⟨I_22, e_23, hF⟩ := zlet_ob hF
          refine z_iastK (n := 100) ((((64 : Int32) + ((8 : Int32) * x_5)) + x_8).toNatClampNeg) rfl dX7_sayRiver_99 rfl (mK_7 hM) (by decide) (zin_ok h_21) e_23 ?_
          refine z_aload_n (n := 101) dX7_sayRiver_100 rfl 1 rfl rfl ?_
          refine z_getRS (n := 104) dX7_sayRiver_101 rfl zok6 fX7_45 rfl hM.1 (Or.inl (by decide)) (mF_7 hM) ?_
          refine z_iload_n (n := 105) dX7_sayRiver_104 rfl 4 rfl rfl ?_
          refine z_bipush (n := 107) (v := 8) dX7_sayRiver_105 rfl (by decide) ?_
          refine z_iload_n (n := 108) dX7_sayRiver_107 rfl 3 rfl rfl ?_
          refine z_imul (n := 109) dX7_sayRiver_108 rfl ?_
          refine z_iadd (n := 110) dX7_sayRiver_109 rfl ?_
          refine z_iload_n (n := 111) dX7_sayRiver_110 rfl 2 rfl rfl ?_
          refine z_iadd (n := 112) dX7_sayRiver_111 rfl ?_
          refine z_iload (n := 114) dX7_sayRiver_112 rfl 0 rfl ?_
          obtain ⟨h_24, hF⟩ := zg_some hF
          obtain ⟨I_25, e_26, hF⟩ := zlet_ob hF
          refine z_iastK (n := 115) ((((64 : Int32) + ((8 : Int32) * x_8)) + x_5).toNatClampNeg) rfl dX7_sayRiver_114 rfl (mK_7 hM) (by decide) (zin_ok h_24) e_26 ?_
          refine z_aload_n (n := 116) dX7_sayRiver_115 rfl 1 rfl rfl ?_
          refine z_getRS (n := 119) dX7_sayRiver_116 rfl zok6 fX7_29 rfl hM.1 (Or.inl (by decide)) (mF_2 hM) ?_
          refine z_bipush (n := 121) (v := 9) dX7_sayRiver_119 rfl (by decide) ?_
          refine z_dup2 (n := 122) dX7_sayRiver_121 rfl rfl rfl ?_
          refine z_ialdK (n := 123) 9 (by decide) dX7_sayRiver_122 rfl (mK_2 hM) (zin_ok (i := 9) (n := 16) rfl) ?_
          refine z_iconst (n := 124) (v := 1) dX7_sayRiver_123 rfl (by decide) ?_
          refine z_iadd (n := 125) dX7_sayRiver_124 rfl ?_
          obtain ⟨I_27, e_28, hF⟩ := zlet_ob hF
          refine z_iastK (n := 126) 9 (by decide) dX7_sayRiver_125 rfl (mK_2 hM) (by decide) (zin_ok (i := 9) (n := 16) rfl) e_28 ?_
          have hF := Option.some.inj hF; subst hF
          exact z_vret dX7_sayRiver_126 rfl ⟨rfl, rfl, rfl, rfl, rfl⟩
        · replace hF := (if_neg hc).symm.trans hF
          have hF := Option.some.inj hF; subst hF
          exact z_vret dX7_sayRiver_84 rfl ⟨rfl, rfl, rfl, rfl, rfl⟩
      clear e_16
      refine z_if_ne (n := 64) (t := 68) dX7_sayRiver_61 rfl (by decide) (fun hc => ?_) (fun hc => ?_)
      · replace hF := (if_pos hc).symm.trans hF
        exact H_17 _ hF
      · replace hF := (if_neg hc).symm.trans hF
        refine z_aload_n (n := 65) dX7_sayRiver_64 rfl 0 rfl rfl ?_
        obtain ⟨I_30, c_29, hF⟩ := zb1_some hF
        refine z_cV (n := 68) (st := []) (C_X7_stepOn htr hM c_29) dX7_sayRiver_65 rfl (lw_V q1883 q1885 qs49 q131 q1886) hcee_X7_stepOn rfl (by decide) hM.1 rfl rfl rfl (Nat.le_of_ble_eq_true rfl) (Nat.le_refl _) (Nat.le_refl _) ?_
        exact H_17 _ hF
    clear e_12
    refine z_if_ne (n := 31) (t := 57) dX7_sayRiver_28 rfl (by decide) (fun hc => ?_) (fun hc => ?_)
    · replace hF := (if_pos hc).symm.trans hF
      refine z_sub [3, 2, 1, 0] rfl ?_
      exact H_13 _ hF
    · replace hF := (if_neg hc).symm.trans hF
      refine z_iload_n (n := 32) dX7_sayRiver_31 rfl 2 rfl rfl ?_
      refine z_iload_n (n := 33) dX7_sayRiver_32 rfl 1 rfl rfl ?_
      refine z_icmp_eq (n := 36) (t := 52) dX7_sayRiver_33 rfl (by decide) (fun hc => ?_) (fun hc => ?_)
      · replace hF := (if_pos hc).symm.trans hF
        refine z_aload_n (n := 53) dX7_sayRiver_52 rfl 3 rfl rfl ?_
        refine z_iconst (n := 54) (v := 4) dX7_sayRiver_53 rfl (by decide) ?_
        obtain ⟨I_32, c_31, hF⟩ := zb1_some hF
        refine z_cV (n := 57) (st := []) (C_X7_wrong htr hM c_31) dX7_sayRiver_54 rfl (lw_V q1916 q1918 qs53 q131 q1919) hcee_X7_wrong rfl (by decide) hM.1 rfl rfl rfl (Nat.le_of_ble_eq_true rfl) (Nat.le_refl _) (Nat.le_refl _) ?_
        refine z_sub [3, 2, 1, 0] rfl ?_
        exact H_13 _ hF
      · replace hF := (if_neg hc).symm.trans hF
        refine z_aload_n (n := 37) dX7_sayRiver_36 rfl 3 rfl rfl ?_
        refine z_getRS (n := 40) dX7_sayRiver_37 rfl zok6 fX7_45 rfl hM.1 (Or.inl (by decide)) (mF_7 hM) ?_
        refine z_iload_n (n := 41) dX7_sayRiver_40 rfl 0 rfl rfl ?_
        refine z_bipush (n := 43) (v := 8) dX7_sayRiver_41 rfl (by decide) ?_
        refine z_iload_n (n := 44) dX7_sayRiver_43 rfl 2 rfl rfl ?_
        refine z_imul (n := 45) dX7_sayRiver_44 rfl ?_
        refine z_iadd (n := 46) dX7_sayRiver_45 rfl ?_
        refine z_iload_n (n := 47) dX7_sayRiver_46 rfl 1 rfl rfl ?_
        refine z_iadd (n := 48) dX7_sayRiver_47 rfl ?_
        obtain ⟨h_33, hF⟩ := zg_some hF
        refine z_ialdK (n := 49) ((((64 : Int32) + ((8 : Int32) * x_5)) + x_8).toNatClampNeg) rfl dX7_sayRiver_48 rfl (mK_7 hM) (zin_ok h_33) ?_
        refine z_if_eq (n := 52) (t := 57) dX7_sayRiver_49 rfl (by decide) (fun hc => ?_) (fun hc => ?_)
        · replace hF := (if_pos hc).symm.trans hF
          refine z_sub [3, 2, 1, 0] rfl ?_
          exact H_13 _ hF
        · replace hF := (if_neg hc).symm.trans hF
          refine z_aload_n (n := 53) dX7_sayRiver_52 rfl 3 rfl rfl ?_
          refine z_iconst (n := 54) (v := 4) dX7_sayRiver_53 rfl (by decide) ?_
          obtain ⟨I_35, c_34, hF⟩ := zb1_some hF
          refine z_cV (n := 57) (st := []) (C_X7_wrong htr hM c_34) dX7_sayRiver_54 rfl (lw_V q1916 q1918 qs53 q131 q1919) hcee_X7_wrong rfl (by decide) hM.1 rfl rfl rfl (Nat.le_of_ble_eq_true rfl) (Nat.le_refl _) (Nat.le_refl _) ?_
          refine z_sub [3, 2, 1, 0] rfl ?_
          exact H_13 _ hF
  · replace hF := (if_neg hc).symm.trans hF
    have hF := Option.some.inj hF; subst hF
    exact z_vret dX7_sayRiver_10 rfl ⟨rfl, rfl, rfl, rfl, rfl⟩
