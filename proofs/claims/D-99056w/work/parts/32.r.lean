theorem fX8_21_7 : zFld RX8 21 7 0 := ⟨_, rfl, by decide, _, Or.inl q1042, Or.inl rfl⟩
theorem fX8_25_7 : zFld RX8 25 7 1 := ⟨_, rfl, by decide, _, Or.inl q1043, Or.inl rfl⟩
abbrev MX8_byteAt : zM := (RX8, cX8_byteAt, 2, (some .int), "byteAt", [])
noncomputable def F_X8_byteAt (K : zKd) (F : zFd) (o0 : Nat) (a0 : Int32) (I : zId) : Option (Int32) := zka K o0 7 (fun n_1 => zg (decide (600 ≤ o0)) (if (I o0 1) ≤ a0 then some 0 else zb1 (F o0 0) (fun o_4 => zka K o_4 65 (fun n_6 => zg (zin a0 n_6) (some ((I o_4 a0.toNatClampNeg) &&& (255 : Int32)))))))
set_option maxHeartbeats 1000000 in
theorem C_X8_byteAt {l : Launch} {G : zGt} (htr : l.stackTraces = false) {K : zKd} {F : zFd} {L : zLd} {o0 : Nat} {a0 : Int32} {I : zId} {r : Int32} (hF : F_X8_byteAt K F o0 a0 I = some r) : zMet l G yX8_byteAt (ws_ yX8_byteAt cX8_byteAt 2 (some .int)) 0 0 0 0 [.ref o0, .int a0] K F I L (zQe (.inl (some (.int r))) K F I L) := by
  refine zMet.of (by decide +kernel) htr (Nat.le_of_ble_eq_true rfl) ?_
  change zW l G MX8_byteAt 0 0 0 0 0 [(0, .ref o0), (1, .int a0)] [] K F I L (zQe (.inl (some (.int r))) K F I L)
  unfold F_X8_byteAt at hF
  refine z_iload_n (n := 1) dX8_byteAt_0 rfl 1 rfl rfl ?_
  refine z_aload_n (n := 2) dX8_byteAt_1 rfl 0 rfl rfl ?_
  obtain ⟨n_1, hk_2, hF⟩ := zka_some hF
  obtain ⟨hb_3, hF⟩ := zg_some hF
  refine z_getI (n := 5) dX8_byteAt_2 rfl zok7 fX8_25_7 rfl hk_2 (Or.inl (zbig hb_3)) ?_
  refine z_icmp_ge (n := 8) (t := 21) dX8_byteAt_5 rfl (by decide) (fun hc => ?_) (fun hc => ?_)
  · replace hF := (if_pos hc).symm.trans hF
    refine z_iconst (n := 22) (v := 0) dX8_byteAt_21 rfl (by decide) ?_
    have hF := Option.some.inj hF; subst hF
    exact z_iret dX8_byteAt_22 rfl rfl ⟨rfl, rfl, rfl, rfl, rfl⟩
  · replace hF := (if_neg hc).symm.trans hF
    refine z_aload_n (n := 9) dX8_byteAt_8 rfl 0 rfl rfl ?_
    obtain ⟨o_4, hr_5, hF⟩ := zb1_some hF
    refine z_getRS (n := 12) dX8_byteAt_9 rfl zok7 fX8_21_7 rfl hk_2 (Or.inl (zbig hb_3)) hr_5 ?_
    refine z_iload_n (n := 13) dX8_byteAt_12 rfl 1 rfl rfl ?_
    obtain ⟨n_6, hk_7, hF⟩ := zka_some hF
    obtain ⟨h_8, hF⟩ := zg_some hF
    refine z_baldK (n := 14) a0.toNatClampNeg rfl dX8_byteAt_13 rfl hk_7 (zin_ok h_8) ?_
    refine z_sipush (n := 17) (v := 255) dX8_byteAt_14 rfl (by decide) ?_
    refine z_iand (n := 18) dX8_byteAt_17 rfl ?_
    refine z_goto (t := 22) dX8_byteAt_18 (by decide) ?_
    have hF := Option.some.inj hF; subst hF
    exact z_iret dX8_byteAt_22 rfl rfl ⟨rfl, rfl, rfl, rfl, rfl⟩
abbrev MX8_isLetter : zM := (RX8, cX8_isLetter, 1, (some .boolean), "isLetter", [])
noncomputable def F_X8_isLetter (K : zKd) (F : zFd) (a0 : Int32) (I : zId) : Option (Int32) := if a0 < 97 then some 0 else if 122 < a0 then some 0 else some 1
set_option maxHeartbeats 1000000 in
theorem C_X8_isLetter {l : Launch} {G : zGt} (htr : l.stackTraces = false) {K : zKd} {F : zFd} {L : zLd} {a0 : Int32} {I : zId} {r : Int32} (hF : F_X8_isLetter K F a0 I = some r) : zMet l G yX8_isLetter (ws_ yX8_isLetter cX8_isLetter 1 (some .boolean)) 0 0 0 0 [.int a0] K F I L (zQe (.inl (some (.int r))) K F I L) := by
  refine zMet.of (by decide +kernel) htr (Nat.le_of_ble_eq_true rfl) ?_
  change zW l G MX8_isLetter 0 0 0 0 0 [(0, .int a0)] [] K F I L (zQe (.inl (some (.int r))) K F I L)
  unfold F_X8_isLetter at hF
  refine z_iload_n (n := 1) dX8_isLetter_0 rfl 0 rfl rfl ?_
  refine z_bipush (n := 3) (v := 97) dX8_isLetter_1 rfl (by decide) ?_
  refine z_icmp_lt (n := 6) (t := 16) dX8_isLetter_3 rfl (by decide) (fun hc => ?_) (fun hc => ?_)
  · replace hF := (if_pos hc).symm.trans hF
    refine z_iconst (n := 17) (v := 0) dX8_isLetter_16 rfl (by decide) ?_
    have hF := Option.some.inj hF; subst hF
    exact z_iret dX8_isLetter_17 rfl rfl ⟨rfl, rfl, rfl, rfl, rfl⟩
  · replace hF := (if_neg hc).symm.trans hF
    refine z_iload_n (n := 7) dX8_isLetter_6 rfl 0 rfl rfl ?_
    refine z_bipush (n := 9) (v := 122) dX8_isLetter_7 rfl (by decide) ?_
    refine z_icmp_gt (n := 12) (t := 16) dX8_isLetter_9 rfl (by decide) (fun hc => ?_) (fun hc => ?_)
    · replace hF := (if_pos hc).symm.trans hF
      refine z_iconst (n := 17) (v := 0) dX8_isLetter_16 rfl (by decide) ?_
      have hF := Option.some.inj hF; subst hF
      exact z_iret dX8_isLetter_17 rfl rfl ⟨rfl, rfl, rfl, rfl, rfl⟩
    · replace hF := (if_neg hc).symm.trans hF
      refine z_iconst (n := 13) (v := 1) dX8_isLetter_12 rfl (by decide) ?_
      refine z_goto (t := 17) dX8_isLetter_13 (by decide) ?_
      have hF := Option.some.inj hF; subst hF
      exact z_iret dX8_isLetter_17 rfl rfl ⟨rfl, rfl, rfl, rfl, rfl⟩
abbrev MX8_isDigit : zM := (RX8, cX8_isDigit, 1, (some .boolean), "isDigit", [])
noncomputable def F_X8_isDigit (K : zKd) (F : zFd) (a0 : Int32) (I : zId) : Option (Int32) := if a0 < 48 then some 0 else if 57 < a0 then some 0 else some 1
set_option maxHeartbeats 1000000 in
theorem C_X8_isDigit {l : Launch} {G : zGt} (htr : l.stackTraces = false) {K : zKd} {F : zFd} {L : zLd} {a0 : Int32} {I : zId} {r : Int32} (hF : F_X8_isDigit K F a0 I = some r) : zMet l G yX8_isDigit (ws_ yX8_isDigit cX8_isDigit 1 (some .boolean)) 0 0 0 0 [.int a0] K F I L (zQe (.inl (some (.int r))) K F I L) := by
  refine zMet.of (by decide +kernel) htr (Nat.le_of_ble_eq_true rfl) ?_
  change zW l G MX8_isDigit 0 0 0 0 0 [(0, .int a0)] [] K F I L (zQe (.inl (some (.int r))) K F I L)
  unfold F_X8_isDigit at hF
  refine z_iload_n (n := 1) dX8_isDigit_0 rfl 0 rfl rfl ?_
  refine z_bipush (n := 3) (v := 48) dX8_isDigit_1 rfl (by decide) ?_
  refine z_icmp_lt (n := 6) (t := 16) dX8_isDigit_3 rfl (by decide) (fun hc => ?_) (fun hc => ?_)
  · replace hF := (if_pos hc).symm.trans hF
    refine z_iconst (n := 17) (v := 0) dX8_isDigit_16 rfl (by decide) ?_
    have hF := Option.some.inj hF; subst hF
    exact z_iret dX8_isDigit_17 rfl rfl ⟨rfl, rfl, rfl, rfl, rfl⟩
  · replace hF := (if_neg hc).symm.trans hF
    refine z_iload_n (n := 7) dX8_isDigit_6 rfl 0 rfl rfl ?_
    refine z_bipush (n := 9) (v := 57) dX8_isDigit_7 rfl (by decide) ?_
    refine z_icmp_gt (n := 12) (t := 16) dX8_isDigit_9 rfl (by decide) (fun hc => ?_) (fun hc => ?_)
    · replace hF := (if_pos hc).symm.trans hF
      refine z_iconst (n := 17) (v := 0) dX8_isDigit_16 rfl (by decide) ?_
      have hF := Option.some.inj hF; subst hF
      exact z_iret dX8_isDigit_17 rfl rfl ⟨rfl, rfl, rfl, rfl, rfl⟩
    · replace hF := (if_neg hc).symm.trans hF
      refine z_iconst (n := 13) (v := 1) dX8_isDigit_12 rfl (by decide) ?_
      refine z_goto (t := 17) dX8_isDigit_13 (by decide) ?_
      have hF := Option.some.inj hF; subst hF
      exact z_iret dX8_isDigit_17 rfl rfl ⟨rfl, rfl, rfl, rfl, rfl⟩
abbrev MX8_isSign : zM := (RX8, cX8_isSign, 1, (some .boolean), "isSign", [])
noncomputable def F_X8_isSign (K : zKd) (F : zFd) (a0 : Int32) (I : zId) : Option (Int32) := if a0 = 59 then some 1 else if a0 = 40 then some 1 else if a0 = 41 then some 1 else if a0 = 43 then some 1 else if a0 = 45 then some 1 else if a0 = 42 then some 1 else if a0 = 47 then some 1 else if a0 = 60 then some 1 else if ¬ a0 = 61 then some 0 else some 1
set_option maxHeartbeats 1000000 in
theorem C_X8_isSign {l : Launch} {G : zGt} (htr : l.stackTraces = false) {K : zKd} {F : zFd} {L : zLd} {a0 : Int32} {I : zId} {r : Int32} (hF : F_X8_isSign K F a0 I = some r) : zMet l G yX8_isSign (ws_ yX8_isSign cX8_isSign 1 (some .boolean)) 0 0 0 0 [.int a0] K F I L (zQe (.inl (some (.int r))) K F I L) := by
  refine zMet.of (by decide +kernel) htr (Nat.le_of_ble_eq_true rfl) ?_
  change zW l G MX8_isSign 0 0 0 0 0 [(0, .int a0)] [] K F I L (zQe (.inl (some (.int r))) K F I L)
  unfold F_X8_isSign at hF
  refine z_iload_n (n := 1) dX8_isSign_0 rfl 0 rfl rfl ?_
  refine z_bipush (n := 3) (v := 59) dX8_isSign_1 rfl (by decide) ?_
  refine z_icmp_eq (n := 6) (t := 54) dX8_isSign_3 rfl (by decide) (fun hc => ?_) (fun hc => ?_)
  · replace hF := (if_pos hc).symm.trans hF
    refine z_iconst (n := 55) (v := 1) dX8_isSign_54 rfl (by decide) ?_
    refine z_goto (t := 59) dX8_isSign_55 (by decide) ?_
    have hF := Option.some.inj hF; subst hF
    exact z_iret dX8_isSign_59 rfl rfl ⟨rfl, rfl, rfl, rfl, rfl⟩
  · replace hF := (if_neg hc).symm.trans hF
    refine z_iload_n (n := 7) dX8_isSign_6 rfl 0 rfl rfl ?_
    refine z_bipush (n := 9) (v := 40) dX8_isSign_7 rfl (by decide) ?_
    refine z_icmp_eq (n := 12) (t := 54) dX8_isSign_9 rfl (by decide) (fun hc => ?_) (fun hc => ?_)
    · replace hF := (if_pos hc).symm.trans hF
      refine z_iconst (n := 55) (v := 1) dX8_isSign_54 rfl (by decide) ?_
      refine z_goto (t := 59) dX8_isSign_55 (by decide) ?_
      have hF := Option.some.inj hF; subst hF
      exact z_iret dX8_isSign_59 rfl rfl ⟨rfl, rfl, rfl, rfl, rfl⟩
    · replace hF := (if_neg hc).symm.trans hF
      refine z_iload_n (n := 13) dX8_isSign_12 rfl 0 rfl rfl ?_
      refine z_bipush (n := 15) (v := 41) dX8_isSign_13 rfl (by decide) ?_
      refine z_icmp_eq (n := 18) (t := 54) dX8_isSign_15 rfl (by decide) (fun hc => ?_) (fun hc => ?_)
      · replace hF := (if_pos hc).symm.trans hF
        refine z_iconst (n := 55) (v := 1) dX8_isSign_54 rfl (by decide) ?_
        refine z_goto (t := 59) dX8_isSign_55 (by decide) ?_
        have hF := Option.some.inj hF; subst hF
        exact z_iret dX8_isSign_59 rfl rfl ⟨rfl, rfl, rfl, rfl, rfl⟩
      · replace hF := (if_neg hc).symm.trans hF
        refine z_iload_n (n := 19) dX8_isSign_18 rfl 0 rfl rfl ?_
        refine z_bipush (n := 21) (v := 43) dX8_isSign_19 rfl (by decide) ?_
        refine z_icmp_eq (n := 24) (t := 54) dX8_isSign_21 rfl (by decide) (fun hc => ?_) (fun hc => ?_)
        · replace hF := (if_pos hc).symm.trans hF
          refine z_iconst (n := 55) (v := 1) dX8_isSign_54 rfl (by decide) ?_
          refine z_goto (t := 59) dX8_isSign_55 (by decide) ?_
          have hF := Option.some.inj hF; subst hF
          exact z_iret dX8_isSign_59 rfl rfl ⟨rfl, rfl, rfl, rfl, rfl⟩
        · replace hF := (if_neg hc).symm.trans hF
          refine z_iload_n (n := 25) dX8_isSign_24 rfl 0 rfl rfl ?_
          refine z_bipush (n := 27) (v := 45) dX8_isSign_25 rfl (by decide) ?_
          refine z_icmp_eq (n := 30) (t := 54) dX8_isSign_27 rfl (by decide) (fun hc => ?_) (fun hc => ?_)
          · replace hF := (if_pos hc).symm.trans hF
            refine z_iconst (n := 55) (v := 1) dX8_isSign_54 rfl (by decide) ?_
            refine z_goto (t := 59) dX8_isSign_55 (by decide) ?_
            have hF := Option.some.inj hF; subst hF
            exact z_iret dX8_isSign_59 rfl rfl ⟨rfl, rfl, rfl, rfl, rfl⟩
          · replace hF := (if_neg hc).symm.trans hF
            refine z_iload_n (n := 31) dX8_isSign_30 rfl 0 rfl rfl ?_
            refine z_bipush (n := 33) (v := 42) dX8_isSign_31 rfl (by decide) ?_
            refine z_icmp_eq (n := 36) (t := 54) dX8_isSign_33 rfl (by decide) (fun hc => ?_) (fun hc => ?_)
            · replace hF := (if_pos hc).symm.trans hF
              refine z_iconst (n := 55) (v := 1) dX8_isSign_54 rfl (by decide) ?_
              refine z_goto (t := 59) dX8_isSign_55 (by decide) ?_
              have hF := Option.some.inj hF; subst hF
              exact z_iret dX8_isSign_59 rfl rfl ⟨rfl, rfl, rfl, rfl, rfl⟩
            · replace hF := (if_neg hc).symm.trans hF
              refine z_iload_n (n := 37) dX8_isSign_36 rfl 0 rfl rfl ?_
              refine z_bipush (n := 39) (v := 47) dX8_isSign_37 rfl (by decide) ?_
              refine z_icmp_eq (n := 42) (t := 54) dX8_isSign_39 rfl (by decide) (fun hc => ?_) (fun hc => ?_)
              · replace hF := (if_pos hc).symm.trans hF
                refine z_iconst (n := 55) (v := 1) dX8_isSign_54 rfl (by decide) ?_
                refine z_goto (t := 59) dX8_isSign_55 (by decide) ?_
                have hF := Option.some.inj hF; subst hF
                exact z_iret dX8_isSign_59 rfl rfl ⟨rfl, rfl, rfl, rfl, rfl⟩
              · replace hF := (if_neg hc).symm.trans hF
                refine z_iload_n (n := 43) dX8_isSign_42 rfl 0 rfl rfl ?_
                refine z_bipush (n := 45) (v := 60) dX8_isSign_43 rfl (by decide) ?_
                refine z_icmp_eq (n := 48) (t := 54) dX8_isSign_45 rfl (by decide) (fun hc => ?_) (fun hc => ?_)
                · replace hF := (if_pos hc).symm.trans hF
                  refine z_iconst (n := 55) (v := 1) dX8_isSign_54 rfl (by decide) ?_
                  refine z_goto (t := 59) dX8_isSign_55 (by decide) ?_
                  have hF := Option.some.inj hF; subst hF
                  exact z_iret dX8_isSign_59 rfl rfl ⟨rfl, rfl, rfl, rfl, rfl⟩
                · replace hF := (if_neg hc).symm.trans hF
                  refine z_iload_n (n := 49) dX8_isSign_48 rfl 0 rfl rfl ?_
                  refine z_bipush (n := 51) (v := 61) dX8_isSign_49 rfl (by decide) ?_
                  refine z_icmp_ne (n := 54) (t := 58) dX8_isSign_51 rfl (by decide) (fun hc => ?_) (fun hc => ?_)
                  · replace hF := (if_pos hc).symm.trans hF
                    refine z_iconst (n := 59) (v := 0) dX8_isSign_58 rfl (by decide) ?_
                    have hF := Option.some.inj hF; subst hF
                    exact z_iret dX8_isSign_59 rfl rfl ⟨rfl, rfl, rfl, rfl, rfl⟩
                  · replace hF := (if_neg hc).symm.trans hF
                    refine z_iconst (n := 55) (v := 1) dX8_isSign_54 rfl (by decide) ?_
                    refine z_goto (t := 59) dX8_isSign_55 (by decide) ?_
                    have hF := Option.some.inj hF; subst hF
                    exact z_iret dX8_isSign_59 rfl rfl ⟨rfl, rfl, rfl, rfl, rfl⟩
theorem fX8_11_7 : zFld RX8 11 7 7 := ⟨_, rfl, by decide, _, Or.inl q1049, Or.inl rfl⟩
theorem fX8_32_7 : zFld RX8 32 7 2 := ⟨_, rfl, by decide, _, Or.inl q1044, Or.inl rfl⟩
theorem fX8_39_7 : zFld RX8 39 7 3 := ⟨_, rfl, by decide, _, Or.inl q1045, Or.inl rfl⟩
theorem fX8_42_7 : zFld RX8 42 7 5 := ⟨_, rfl, by decide, _, Or.inl q1047, Or.inl rfl⟩
theorem fX8_52_7 : zFld RX8 52 7 6 := ⟨_, rfl, by decide, _, Or.inl q1048, Or.inl rfl⟩
theorem fX8_82_7 : zFld RX8 82 7 4 := ⟨_, rfl, by decide, _, Or.inl q1046, Or.inl rfl⟩
theorem hcee_J8_append_3 : zCee yJ8_append_3 RJ8 1 := ⟨rfl, by decide +kernel, by decide +kernel, by decide +kernel⟩
theorem hcee_J8_init_2 : zCee yJ8_init_2 RJ8 1 := ⟨rfl, by decide +kernel, by decide +kernel, by decide +kernel⟩
theorem hcee_J8_toString : zCee yJ8_toString RJ8 0 := ⟨rfl, by decide +kernel, by decide +kernel, by decide +kernel⟩
theorem hcee_J9_valueOf : zCee yJ9_valueOf RJ9 1 := ⟨rfl, by decide +kernel, by decide +kernel, by decide +kernel⟩
theorem hcee_X8_byteAt : zCee yX8_byteAt RX8 1 := ⟨rfl, by decide +kernel, by decide +kernel, by decide +kernel⟩
theorem hcee_X8_isDigit : zCee yX8_isDigit RX8 1 := ⟨rfl, by decide +kernel, by decide +kernel, by decide +kernel⟩
theorem hcee_X8_isLetter : zCee yX8_isLetter RX8 1 := ⟨rfl, by decide +kernel, by decide +kernel, by decide +kernel⟩
theorem hcee_X8_isSign : zCee yX8_isSign RX8 1 := ⟨rfl, by decide +kernel, by decide +kernel, by decide +kernel⟩
theorem zlit_X8_9 : ((RX8, 9, "", 30) : String × Nat × String × Nat) ∈ zLit := List.mem_of_getElem? (i := 0) rfl
abbrev MX8_go : zM := (RX8, cX8_go, 3, none, "go", [])
noncomputable def F_X8_go_L0 (o0 : Nat) (h_1 : zSt) : Option ((Nat × Nat) × ((zSt) ⊕ (zSt))) := zka (hK h_1) o0 7 (fun n_2 => zg (decide (600 ≤ o0)) (if ((hI h_1) o0 1) ≤ ((hI h_1) o0 2) then some ((0, 0), .inr (h_1)) else zb1 (F_X8_byteAt (hK h_1) (jF h_1) o0 ((hI h_1) o0 2) (hI h_1)) (fun x_6 => if x_6 = 32 then zlet (zsI h_1 (zu (hI h_1) o0 2 (((hI h_1) o0 2) + 1))) (fun h_7 => some ((0, 0), .inl h_7)) else zb1 (F_X8_byteAt (hK h_1) (jF h_1) o0 ((hI h_1) o0 2) (hI h_1)) (fun x_10 => if ¬ x_10 = 10 then some ((0, 0), .inr (h_1)) else zlet (zsI h_1 (zu (hI h_1) o0 2 (((hI h_1) o0 2) + 1))) (fun h_11 => some ((0, 0), .inl h_11))))))
noncomputable def F_X8_go_L196 (o0 : Nat) (h_74 : zSt) : Option ((Nat × Nat) × ((zSt) ⊕ (zSt))) := zka (hK h_74) o0 7 (fun n_75 => zg (decide (600 ≤ o0)) (zb1 (F_X8_byteAt (hK h_74) (jF h_74) o0 ((hI h_74) o0 2) (hI h_74)) (fun x_79 => zb1 (F_X8_isDigit (hK h_74) (jF h_74) x_79 (hI h_74)) (fun x_81 => if x_81 = 0 then some ((0, 0), .inr (h_74)) else zlet (fun (h_82 : zSt) => zka (hK h_82) o0 7 (fun n_86 => zlet (zsI h_82 (zu (hI h_82) o0 2 (((hI h_82) o0 2) + 1))) (fun h_88 => some ((0, 0), .inl h_88)))) (fun k_83 => if 4 ≤ (((hI h_74) o0 2) - ((hI h_74) o0 3)) then k_83 h_74 else zb1 (F_X8_byteAt (hK h_74) (jF h_74) o0 ((hI h_74) o0 2) (hI h_74)) (fun x_91 => zlet (zsI h_74 (zu (hI h_74) o0 4 ((((10 : Int32) * ((hI h_74) o0 4)) + x_91) - 48))) (fun h_92 => k_83 h_92)))))))
noncomputable def F_X8_go_L116 (o0 : Nat) (o_116 : Nat) (h_121 : zSt) : Option ((Nat × Nat) × ((zSt) ⊕ (zSt))) := zka (hK h_121) o0 7 (fun n_122 => zg (decide (600 ≤ o0)) (zb1 (F_X8_byteAt (hK h_121) (jF h_121) o0 ((hI h_121) o0 2) (hI h_121)) (fun x_126 => zb1 (F_X8_isLetter (hK h_121) (jF h_121) x_126 (hI h_121)) (fun x_128 => if x_128 = 0 then some ((0, 0), .inr (h_121)) else zka (hK h_121) o_116 16 (fun n_129 => zb1 (F_J8_length (hK h_121) (jF h_121) o_116 (hI h_121)) (fun x_132 => zlet (fun (h_133 : zSt) => zka (hK h_133) o0 7 (fun n_137 => zlet (zsI h_133 (zu (hI h_133) o0 2 (((hI h_133) o0 2) + 1))) (fun h_139 => some ((0, 0), .inl h_139)))) (fun k_134 => if 9 ≤ x_132 then k_134 h_121 else zb1 (F_X8_byteAt (hK h_121) (jF h_121) o0 ((hI h_121) o0 2) (hI h_121)) (fun x_142 => zc1 (F_J8_append_3 o_116 ((x_142.toUInt32 % 65536).toInt32) h_121) (fun c_146 => zn2 (fun q_144 h_145 => zpay c_146 (zb1 q_144 (fun o_148 => k_134 h_145))))))))))))
noncomputable def F_X8_go (o0 : Nat) (h : zSt) : Option ((Nat × Nat) × (zSt)) := zc1 (zloopC (fun s : zSt => F_X8_go_L0 o0 s) h) (fun c_177 t_178 => zpay c_177 ((fun h_13 => zka (hK h_13) o0 7 (fun n_14 => zg (decide (600 ≤ o0)) (zlet (zsI h_13 (zu (hI h_13) o0 3 ((hI h_13) o0 2))) (fun h_17 => zka (hK h_17) 30 15 (fun n_20 => zka (hK h_17) o0 7 (fun n_21 => zlet (zsF h_17 (zu (jF h_17) o0 7 (some 30))) (fun h_23 => zka (hK h_23) o0 7 (fun n_25 => zlet (zsI h_23 (zu (hI h_23) o0 5 0)) (fun h_27 => zka (hK h_27) o0 7 (fun n_29 => zb1 (F_X8_byteAt (hK h_27) (jF h_27) o0 ((hI h_27) o0 2) (hI h_27)) (fun x_32 => if ((hI h_27) o0 2) < ((hI h_27) o0 1) then zb1 (F_X8_isLetter (hK h_27) (jF h_27) x_32 (hI h_27)) (fun x_34 => if x_34 = 0 then zb1 (F_X8_isDigit (hK h_27) (jF h_27) x_32 (hI h_27)) (fun x_36 => if x_36 = 0 then zb1 (F_X8_isSign (hK h_27) (jF h_27) x_32 (hI h_27)) (fun x_38 => zlet (fun (o_39 : Nat) => zlet (zsF h_27 (zu (jF h_27) o0 6 (some o_39))) (fun h_43 => zka (hK h_43) o0 7 (fun n_45 => zb1 ((jF h_43) o0 6) (fun o_47 => zg ((hK h_43) 2).isSome (zlet (fun (h_51 : zSt) => zka (hK h_51) o0 7 (fun n_55 => zlet (zsI h_51 (zu (hI h_51) o0 2 (((hI h_51) o0 2) + 1))) (fun h_57 => some ((0, 0), h_57)))) (fun k_52 => zg (zcmpok (some o_47) (some 2)) (if ¬ (some o_47) = (some 2) then k_52 h_43 else zc1 (F_J9_valueOf ((x_32.toUInt32 % 65536).toInt32) h_43) (fun c_62 => zn2 (fun q_60 h_61 => zpay c_62 (zb1 q_60 (fun o_64 => zka (hK h_61) o0 7 (fun n_66 => zlet (zsF h_61 (zu (jF h_61) o0 7 (some o_64))) (fun h_68 => k_52 h_68))))))))))))) (fun k_40 => if x_38 = 0 then zg ((hK h_27) 3).isSome (k_40 3) else zg ((hK h_27) 2).isSome (k_40 2))) else zlet (zsI h_27 (zu (hI h_27) o0 4 0)) (fun h_72 => zc1 (zloopC (fun s : zSt => F_X8_go_L196 o0 s) h_72) (fun c_110 t_111 => zpay c_110 ((fun h_94 => zka (hK h_94) o0 7 (fun n_95 => zlet (fun (w_97 : Int32) => zg (zfitsZ w_97) (zlet (zsI h_94 (zu (hI h_94) o0 5 w_97)) (fun h_102 => zg ((hK h_102) 1).isSome (zka (hK h_102) o0 7 (fun n_105 => zlet (zsF h_102 (zu (jF h_102) o0 6 (some 1))) (fun h_107 => some ((0, 0), h_107))))))) (fun k_98 => if (((hI h_94) o0 2) - ((hI h_94) o0 3)) ≤ 4 then k_98 0 else k_98 1))) t_111)))) else zpay (1, 4) (zg (zfree h_27) (zlet (hN h_27) (fun o_116 => zlet (znA h_27 16 0) (fun h_114 => zc1 (F_J8_init_2 o_116 9 h_114) (fun c_120 h_119 => zpay c_120 (zc1 (zloopC (fun s : zSt => F_X8_go_L116 o0 o_116 s) h_119) (fun c_170 t_171 => zpay c_170 ((fun h_150 => zka (hK h_150) o_116 16 (fun n_151 => zc1 (F_J8_toString o_116 h_150) (fun c_156 => zn2 (fun q_154 h_155 => zpay c_156 (zb1 q_154 (fun o_158 => zka (hK h_155) o0 7 (fun n_160 => zlet (zsF h_155 (zu (jF h_155) o0 7 (some o_158))) (fun h_162 => zg ((hK h_162) 0).isSome (zka (hK h_162) o0 7 (fun n_165 => zlet (zsF h_162 (zu (jF h_162) o0 6 (some 0))) (fun h_167 => some ((0, 0), h_167)))))))))))) t_171))))))))) else zg ((hK h_27) 4).isSome (zlet (zsF h_27 (zu (jF h_27) o0 6 (some 4))) (fun h_174 => some ((0, 0), h_174)))))))))))))) t_178))
set_option maxHeartbeats 1000000 in
theorem W_X8_go_L0 {l : Launch} {G : zGt} (htr : l.stackTraces = false) {Q : zQt} {mE wE : Nat} {cc : Nat × Nat} {o0 : Nat} {h_1 : zSt} {r : (zSt) ⊕ (zSt)} (hF : F_X8_go_L0 o0 h_1 = some (cc, r)) (kl : ∀ (z0 : zSt), r = .inl z0 → zW l G MX8_go 6 171 mE wE 0 [(0, .ref o0)] [] (hK z0) (jF z0) (hI z0) (hL z0) Q) (kx : ∀ (y0 : zSt), r = .inr y0 → zW l G MX8_go 6 171 mE wE 50 [(0, .ref o0)] [] (hK y0) (jF y0) (hI y0) (hL y0) Q)  : zW l G MX8_go 6 171 (cc.1 + mE) (cc.2 + wE) 0 [(0, .ref o0)] [] (hK h_1) (jF h_1) (hI h_1) (hL h_1) Q := by
  unfold F_X8_go_L0 at hF
  refine z_aload_n (n := 1) dX8_go_0 rfl 0 rfl rfl ?_
  obtain ⟨n_2, hk_3, hF⟩ := zka_some hF
  obtain ⟨hb_4, hF⟩ := zg_some hF
  refine z_getI (n := 4) dX8_go_1 rfl zok7 fX8_32_7 rfl hk_3 (Or.inl (zbig hb_4)) ?_
  refine z_aload_n (n := 5) dX8_go_4 rfl 0 rfl rfl ?_
  refine z_getI (n := 8) dX8_go_5 rfl zok7 fX8_25_7 rfl hk_3 (Or.inl (zbig hb_4)) ?_
  refine z_icmp_ge (n := 11) (t := 50) dX8_go_8 rfl (by decide) (fun hc => ?_) (fun hc => ?_)
  · replace hF := (if_pos hc).symm.trans hF
    obtain ⟨rfl, rfl⟩ := zpair hF
    refine z_eq (Nat.zero_add _) (Nat.zero_add _) ?_
    exact kx h_1 rfl
  · replace hF := (if_neg hc).symm.trans hF
    refine z_aload_n (n := 12) dX8_go_11 rfl 0 rfl rfl ?_
    refine z_aload_n (n := 13) dX8_go_12 rfl 0 rfl rfl ?_
    refine z_getI (n := 16) dX8_go_13 rfl zok7 fX8_32_7 rfl hk_3 (Or.inl (zbig hb_4)) ?_
    obtain ⟨x_6, c_5, hF⟩ := zb1_some hF
    refine z_cV (n := 19) (mc2 := (cc.1 + mE)) (ms2 := (cc.2 + wE)) (st := []) (C_X8_byteAt htr c_5) dX8_go_16 rfl (lw_V q979 q981 qs14 q132 q982) hcee_X8_byteAt rfl (by decide) hk_3 rfl rfl rfl (Nat.le_of_ble_eq_true rfl) (Nat.le_refl _) (Nat.le_refl _) ?_
    refine z_bipush (n := 21) (v := 32) dX8_go_19 rfl (by decide) ?_
    refine z_icmp_eq (n := 24) (t := 37) dX8_go_21 rfl (by decide) (fun hc => ?_) (fun hc => ?_)
    · replace hF := (if_pos hc).symm.trans hF
      refine z_aload_n (n := 38) dX8_go_37 rfl 0 rfl rfl ?_
      refine z_dup (n := 39) dX8_go_38 rfl rfl ?_
      refine z_getI (n := 42) dX8_go_39 rfl zok7 fX8_32_7 rfl hk_3 (Or.inl (zbig hb_4)) ?_
      refine z_iconst (n := 43) (v := 1) dX8_go_42 rfl (by decide) ?_
      refine z_iadd (n := 44) dX8_go_43 rfl ?_
      obtain ⟨h_7, e_8, hF⟩ := zlet_ob hF
      refine z_putIE (n := 47) dX8_go_44 rfl zok7 fX8_32_7 (Or.inl ⟨_, rfl, rfl⟩) rfl ⟨rfl, rfl⟩ hk_3 (zbig hb_4) rfl ?_
      refine z_toI e_8 ?_
      refine z_goto (t := 0) dX8_go_47 (by decide) ?_
      obtain ⟨rfl, rfl⟩ := zpair hF
      refine z_eq (Nat.zero_add _) (Nat.zero_add _) ?_
      exact kl h_7 rfl
    · replace hF := (if_neg hc).symm.trans hF
      refine z_aload_n (n := 25) dX8_go_24 rfl 0 rfl rfl ?_
      refine z_aload_n (n := 26) dX8_go_25 rfl 0 rfl rfl ?_
      refine z_getI (n := 29) dX8_go_26 rfl zok7 fX8_32_7 rfl hk_3 (Or.inl (zbig hb_4)) ?_
      obtain ⟨x_10, c_9, hF⟩ := zb1_some hF
      refine z_cV (n := 32) (mc2 := (cc.1 + mE)) (ms2 := (cc.2 + wE)) (st := []) (C_X8_byteAt htr c_9) dX8_go_29 rfl (lw_V q979 q981 qs14 q132 q982) hcee_X8_byteAt rfl (by decide) hk_3 rfl rfl rfl (Nat.le_of_ble_eq_true rfl) (Nat.le_refl _) (Nat.le_refl _) ?_
      refine z_bipush (n := 34) (v := 10) dX8_go_32 rfl (by decide) ?_
      refine z_icmp_ne (n := 37) (t := 50) dX8_go_34 rfl (by decide) (fun hc => ?_) (fun hc => ?_)
      · replace hF := (if_pos hc).symm.trans hF
        obtain ⟨rfl, rfl⟩ := zpair hF
        refine z_eq (Nat.zero_add _) (Nat.zero_add _) ?_
        exact kx h_1 rfl
      · replace hF := (if_neg hc).symm.trans hF
        refine z_aload_n (n := 38) dX8_go_37 rfl 0 rfl rfl ?_
        refine z_dup (n := 39) dX8_go_38 rfl rfl ?_
        refine z_getI (n := 42) dX8_go_39 rfl zok7 fX8_32_7 rfl hk_3 (Or.inl (zbig hb_4)) ?_
        refine z_iconst (n := 43) (v := 1) dX8_go_42 rfl (by decide) ?_
        refine z_iadd (n := 44) dX8_go_43 rfl ?_
        obtain ⟨h_11, e_12, hF⟩ := zlet_ob hF
        refine z_putIE (n := 47) dX8_go_44 rfl zok7 fX8_32_7 (Or.inl ⟨_, rfl, rfl⟩) rfl ⟨rfl, rfl⟩ hk_3 (zbig hb_4) rfl ?_
        refine z_toI e_12 ?_
        refine z_goto (t := 0) dX8_go_47 (by decide) ?_
        obtain ⟨rfl, rfl⟩ := zpair hF
        refine z_eq (Nat.zero_add _) (Nat.zero_add _) ?_
        exact kl h_11 rfl
set_option maxHeartbeats 1000000 in
theorem W_X8_go_L196 {l : Launch} {G : zGt} (htr : l.stackTraces = false) {Q : zQt} {mE wE : Nat} {cc : Nat × Nat} {o0 : Nat} {h_74 : zSt} {r : (zSt) ⊕ (zSt)} (hF : F_X8_go_L196 o0 h_74 = some (cc, r)) (kl : ∀ (z0 : zSt), r = .inl z0 → zW l G MX8_go 6 171 mE wE 196 [(0, .ref o0)] [] (hK z0) (jF z0) (hI z0) (hL z0) Q) (kx : ∀ (y0 : zSt), r = .inr y0 → zW l G MX8_go 6 171 mE wE 259 [(0, .ref o0)] [] (hK y0) (jF y0) (hI y0) (hL y0) Q)  : zW l G MX8_go 6 171 (cc.1 + mE) (cc.2 + wE) 196 [(0, .ref o0)] [] (hK h_74) (jF h_74) (hI h_74) (hL h_74) Q := by
  unfold F_X8_go_L196 at hF
  refine z_aload_n (n := 197) dX8_go_196 rfl 0 rfl rfl ?_
  refine z_aload_n (n := 198) dX8_go_197 rfl 0 rfl rfl ?_
  obtain ⟨n_75, hk_76, hF⟩ := zka_some hF
  obtain ⟨hb_77, hF⟩ := zg_some hF
  refine z_getI (n := 201) dX8_go_198 rfl zok7 fX8_32_7 rfl hk_76 (Or.inl (zbig hb_77)) ?_
  obtain ⟨x_79, c_78, hF⟩ := zb1_some hF
  refine z_cV (n := 204) (mc2 := (cc.1 + mE)) (ms2 := (cc.2 + wE)) (st := []) (C_X8_byteAt htr c_78) dX8_go_201 rfl (lw_V q979 q981 qs14 q132 q982) hcee_X8_byteAt rfl (by decide) hk_76 rfl rfl rfl (Nat.le_of_ble_eq_true rfl) (Nat.le_refl _) (Nat.le_refl _) ?_
  obtain ⟨x_81, c_80, hF⟩ := zb1_some hF
  refine z_cS (n := 207) (mc2 := (cc.1 + mE)) (ms2 := (cc.2 + wE)) (st := []) (C_X8_isDigit htr c_80) dX8_go_204 rfl (lw_S q1016 q1017 q132 q1018) hcee_X8_isDigit rfl (by decide) rfl (Nat.le_of_ble_eq_true rfl) (Nat.le_refl _) (Nat.le_refl _) ?_
  refine z_if_eq (n := 210) (t := 259) dX8_go_207 rfl (by decide) (fun hc => ?_) (fun hc => ?_)
  · replace hF := (if_pos hc).symm.trans hF
    obtain ⟨rfl, rfl⟩ := zpair hF
    refine z_eq (Nat.zero_add _) (Nat.zero_add _) ?_
    exact kx h_74 rfl
  · replace hF := (if_neg hc).symm.trans hF
    refine z_aload_n (n := 211) dX8_go_210 rfl 0 rfl rfl ?_
    refine z_getI (n := 214) dX8_go_211 rfl zok7 fX8_32_7 rfl hk_76 (Or.inl (zbig hb_77)) ?_
    refine z_aload_n (n := 215) dX8_go_214 rfl 0 rfl rfl ?_
    refine z_getI (n := 218) dX8_go_215 rfl zok7 fX8_39_7 rfl hk_76 (Or.inl (zbig hb_77)) ?_
    refine z_isub (n := 219) dX8_go_218 rfl ?_
    refine z_iconst (n := 220) (v := 4) dX8_go_219 rfl (by decide) ?_
    obtain ⟨k_83, e_84, hF⟩ := zlet_ob hF
    have H_85 : ∀ (h_82 : zSt) (cc : Nat × Nat), k_83 h_82 = some (cc, r) → zW l G MX8_go 6 171 (cc.1 + mE) (cc.2 + wE) 246 [(0, .ref o0)] [] (hK h_82) (jF h_82) (hI h_82) (hL h_82) Q := by
      intro h_82 cc hF
      subst e_84
      dsimp only at hF
      refine z_aload_n (n := 247) dX8_go_246 rfl 0 rfl rfl ?_
      refine z_dup (n := 248) dX8_go_247 rfl rfl ?_
      obtain ⟨n_86, hk_87, hF⟩ := zka_some hF
      refine z_getI (n := 251) dX8_go_248 rfl zok7 fX8_32_7 rfl hk_87 (Or.inl (zbig hb_77)) ?_
      refine z_iconst (n := 252) (v := 1) dX8_go_251 rfl (by decide) ?_
      refine z_iadd (n := 253) dX8_go_252 rfl ?_
      obtain ⟨h_88, e_89, hF⟩ := zlet_ob hF
      refine z_putIE (n := 256) dX8_go_253 rfl zok7 fX8_32_7 (Or.inl ⟨_, rfl, rfl⟩) rfl ⟨rfl, rfl⟩ hk_87 (zbig hb_77) rfl ?_
      refine z_toI e_89 ?_
      refine z_goto (t := 196) dX8_go_256 (by decide) ?_
      obtain ⟨rfl, rfl⟩ := zpair hF
      refine z_eq (Nat.zero_add _) (Nat.zero_add _) ?_
      exact kl h_88 rfl
    clear e_84
    refine z_icmp_ge (n := 223) (t := 246) dX8_go_220 rfl (by decide) (fun hc => ?_) (fun hc => ?_)
    · replace hF := (if_pos hc).symm.trans hF
      exact H_85 h_74 _ hF
    · replace hF := (if_neg hc).symm.trans hF
      refine z_aload_n (n := 224) dX8_go_223 rfl 0 rfl rfl ?_
      refine z_bipush (n := 226) (v := 10) dX8_go_224 rfl (by decide) ?_
      refine z_aload_n (n := 227) dX8_go_226 rfl 0 rfl rfl ?_
      refine z_getI (n := 230) dX8_go_227 rfl zok7 fX8_82_7 rfl hk_76 (Or.inl (zbig hb_77)) ?_
      refine z_imul (n := 231) dX8_go_230 rfl ?_
      refine z_aload_n (n := 232) dX8_go_231 rfl 0 rfl rfl ?_
      refine z_aload_n (n := 233) dX8_go_232 rfl 0 rfl rfl ?_
      refine z_getI (n := 236) dX8_go_233 rfl zok7 fX8_32_7 rfl hk_76 (Or.inl (zbig hb_77)) ?_
      obtain ⟨x_91, c_90, hF⟩ := zb1_some hF
      refine z_cV (n := 239) (mc2 := (cc.1 + mE)) (ms2 := (cc.2 + wE)) (st := [.int ((10 : Int32) * ((hI h_74) o0 4)), .ref o0]) (C_X8_byteAt htr c_90) dX8_go_236 rfl (lw_V q979 q981 qs14 q132 q982) hcee_X8_byteAt rfl (by decide) hk_76 rfl rfl rfl (Nat.le_of_ble_eq_true rfl) (Nat.le_refl _) (Nat.le_refl _) ?_
      refine z_iadd (n := 240) dX8_go_239 rfl ?_
      refine z_bipush (n := 242) (v := 48) dX8_go_240 rfl (by decide) ?_
      refine z_isub (n := 243) dX8_go_242 rfl ?_
      obtain ⟨h_92, e_93, hF⟩ := zlet_ob hF
      refine z_putIE (n := 246) dX8_go_243 rfl zok7 fX8_82_7 (Or.inl ⟨_, rfl, rfl⟩) rfl ⟨rfl, rfl⟩ hk_76 (zbig hb_77) rfl ?_
      refine z_toI e_93 ?_
      exact H_85 h_92 _ hF
set_option maxHeartbeats 1000000 in
theorem W_X8_go_L116 {l : Launch} {G : zGt} (htr : l.stackTraces = false) {Q : zQt} {mE wE : Nat} {cc : Nat × Nat} {o0 : Nat} {o_116 : Nat} {h_121 : zSt} {r : (zSt) ⊕ (zSt)} (hF : F_X8_go_L116 o0 o_116 h_121 = some (cc, r)) (kl : ∀ (z0 : zSt), r = .inl z0 → zW l G MX8_go 6 171 mE wE 116 [(0, .ref o0), (2, .ref o_116)] [] (hK z0) (jF z0) (hI z0) (hL z0) Q) (kx : ∀ (y0 : zSt), r = .inr y0 → zW l G MX8_go 6 171 mE wE 166 [(0, .ref o0), (2, .ref o_116)] [] (hK y0) (jF y0) (hI y0) (hL y0) Q)  : zW l G MX8_go 6 171 (cc.1 + mE) (cc.2 + wE) 116 [(0, .ref o0), (2, .ref o_116)] [] (hK h_121) (jF h_121) (hI h_121) (hL h_121) Q := by
  unfold F_X8_go_L116 at hF
  refine z_aload_n (n := 117) dX8_go_116 rfl 0 rfl rfl ?_
  refine z_aload_n (n := 118) dX8_go_117 rfl 0 rfl rfl ?_
  obtain ⟨n_122, hk_123, hF⟩ := zka_some hF
  obtain ⟨hb_124, hF⟩ := zg_some hF
  refine z_getI (n := 121) dX8_go_118 rfl zok7 fX8_32_7 rfl hk_123 (Or.inl (zbig hb_124)) ?_
  obtain ⟨x_126, c_125, hF⟩ := zb1_some hF
  refine z_cV (n := 124) (mc2 := (cc.1 + mE)) (ms2 := (cc.2 + wE)) (st := []) (C_X8_byteAt htr c_125) dX8_go_121 rfl (lw_V q979 q981 qs14 q132 q982) hcee_X8_byteAt rfl (by decide) hk_123 rfl rfl rfl (Nat.le_of_ble_eq_true rfl) (Nat.le_refl _) (Nat.le_refl _) ?_
  obtain ⟨x_128, c_127, hF⟩ := zb1_some hF
  refine z_cS (n := 127) (mc2 := (cc.1 + mE)) (ms2 := (cc.2 + wE)) (st := []) (C_X8_isLetter htr c_127) dX8_go_124 rfl (lw_S q985 q986 q132 q987) hcee_X8_isLetter rfl (by decide) rfl (Nat.le_of_ble_eq_true rfl) (Nat.le_refl _) (Nat.le_refl _) ?_
  refine z_if_eq (n := 130) (t := 166) dX8_go_127 rfl (by decide) (fun hc => ?_) (fun hc => ?_)
  · replace hF := (if_pos hc).symm.trans hF
    obtain ⟨rfl, rfl⟩ := zpair hF
    refine z_eq (Nat.zero_add _) (Nat.zero_add _) ?_
    exact kx h_121 rfl
  · replace hF := (if_neg hc).symm.trans hF
    refine z_aload_n (n := 131) dX8_go_130 rfl 1 rfl rfl ?_
    obtain ⟨n_129, hk_130, hF⟩ := zka_some hF
    obtain ⟨x_132, c_131, hF⟩ := zb1_some hF
    refine z_cV (n := 134) (mc2 := (cc.1 + mE)) (ms2 := (cc.2 + wE)) (st := []) (C_J8_length htr c_131) dX8_go_131 rfl (lw_V q992 q416 q2300 q115 q417) hcee_J8_length rfl (by decide) hk_130 rfl rfl rfl (Nat.le_of_ble_eq_true rfl) (Nat.le_refl _) (Nat.le_refl _) ?_
    refine z_bipush (n := 136) (v := 9) dX8_go_134 rfl (by decide) ?_
    obtain ⟨k_134, e_135, hF⟩ := zlet_ob hF
    have H_136 : ∀ (h_133 : zSt) (cc : Nat × Nat), k_134 h_133 = some (cc, r) → zW l G MX8_go 6 171 (cc.1 + mE) (cc.2 + wE) 153 [(0, .ref o0), (2, .ref o_116)] [] (hK h_133) (jF h_133) (hI h_133) (hL h_133) Q := by
      intro h_133 cc hF
      subst e_135
      dsimp only at hF
      refine z_aload_n (n := 154) dX8_go_153 rfl 0 rfl rfl ?_
      refine z_dup (n := 155) dX8_go_154 rfl rfl ?_
      obtain ⟨n_137, hk_138, hF⟩ := zka_some hF
      refine z_getI (n := 158) dX8_go_155 rfl zok7 fX8_32_7 rfl hk_138 (Or.inl (zbig hb_124)) ?_
      refine z_iconst (n := 159) (v := 1) dX8_go_158 rfl (by decide) ?_
      refine z_iadd (n := 160) dX8_go_159 rfl ?_
      obtain ⟨h_139, e_140, hF⟩ := zlet_ob hF
      refine z_putIE (n := 163) dX8_go_160 rfl zok7 fX8_32_7 (Or.inl ⟨_, rfl, rfl⟩) rfl ⟨rfl, rfl⟩ hk_138 (zbig hb_124) rfl ?_
      refine z_toI e_140 ?_
      refine z_goto (t := 116) dX8_go_163 (by decide) ?_
      obtain ⟨rfl, rfl⟩ := zpair hF
      refine z_eq (Nat.zero_add _) (Nat.zero_add _) ?_
      exact kl h_139 rfl
    clear e_135
    refine z_icmp_ge (n := 139) (t := 153) dX8_go_136 rfl (by decide) (fun hc => ?_) (fun hc => ?_)
    · replace hF := (if_pos hc).symm.trans hF
      exact H_136 h_121 _ hF
    · replace hF := (if_neg hc).symm.trans hF
      refine z_aload_n (n := 140) dX8_go_139 rfl 1 rfl rfl ?_
      refine z_aload_n (n := 141) dX8_go_140 rfl 0 rfl rfl ?_
      refine z_aload_n (n := 142) dX8_go_141 rfl 0 rfl rfl ?_
      refine z_getI (n := 145) dX8_go_142 rfl zok7 fX8_32_7 rfl hk_123 (Or.inl (zbig hb_124)) ?_
      obtain ⟨x_142, c_141, hF⟩ := zb1_some hF
      refine z_cV (n := 148) (mc2 := (cc.1 + mE)) (ms2 := (cc.2 + wE)) (st := [.ref o_116]) (C_X8_byteAt htr c_141) dX8_go_145 rfl (lw_V q979 q981 qs14 q132 q982) hcee_X8_byteAt rfl (by decide) hk_123 rfl rfl rfl (Nat.le_of_ble_eq_true rfl) (Nat.le_refl _) (Nat.le_refl _) ?_
      refine z_i2c (n := 149) dX8_go_148 rfl ?_
      obtain ⟨c_146, t_147, c_143, hF⟩ := zc1_some hF
      obtain ⟨q_144, h_145⟩ := t_147
      dsimp only [zn2] at hF
      obtain ⟨cc, hF, hcc⟩ := zpay_some hF
      refine z_payE hcc ?_
      refine z_cV (n := 152) (mc2 := (cc.1 + mE)) (ms2 := (cc.2 + wE)) (st := []) (C_J8_append_3 htr c_143) dX8_go_149 rfl (lw_V q993 q994 q995 q115 q996) hcee_J8_append_3 rfl (by decide) hk_130 rfl rfl rfl (Nat.le_of_ble_eq_true rfl) (Nat.le_of_eq (Nat.add_comm _ _)) (Nat.le_of_eq (Nat.add_comm _ _)) ?_
      obtain ⟨o_148, hr_149, hF⟩ := zb1_some hF
      rw [hr_149]
      refine z_pop (n := 153) dX8_go_152 rfl rfl ?_
      exact H_136 h_145 _ hF
set_option maxHeartbeats 1000000 in
theorem C_X8_go {l : Launch} {G : zGt} (htr : l.stackTraces = false) {o0 : Nat} {h : zSt} {cc : Nat × Nat} {r : zSt} (hF : F_X8_go o0 h = some (cc, r)) : zMet l G yX8_go (ws_ yX8_go cX8_go 3 none) 6 171 (cc.1 + 0) (cc.2 + 0) [.ref o0] (hK h) (jF h) (hI h) (hL h) (zQe (.inl none) (hK r) (jF r) (hI r) (hL r)) := by
  refine zMet.of (by decide +kernel) htr (Nat.le_of_ble_eq_true rfl) ?_
  change zW l G MX8_go 6 171 (cc.1 + 0) (cc.2 + 0) 0 [(0, .ref o0)] [] (hK h) (jF h) (hI h) (hL h) (zQe (.inl none) (hK r) (jF r) (hI r) (hL r))
  unfold F_X8_go at hF
  obtain ⟨c_177, t_178, e_176, hF⟩ := zc1_some hF
  obtain ⟨cc, hF, hcc⟩ := zpay_some hF
  obtain ⟨h_13, rfl⟩ : ∃ z, z = t_178 := ⟨_, rfl⟩
  have H_179 : zW l G MX8_go 6 171 (cc.1 + 0) (cc.2 + 0) 50 [(0, .ref o0)] [] (hK h_13) (jF h_13) (hI h_13) (hL h_13) (zQe (.inl none) (hK r) (jF r) (hI r) (hL r)) := by
    refine z_aload_n (n := 51) dX8_go_50 rfl 0 rfl rfl ?_
    refine z_aload_n (n := 52) dX8_go_51 rfl 0 rfl rfl ?_
    obtain ⟨n_14, hk_15, hF⟩ := zka_some hF
    obtain ⟨hb_16, hF⟩ := zg_some hF
    refine z_getI (n := 55) dX8_go_52 rfl zok7 fX8_32_7 rfl hk_15 (Or.inl (zbig hb_16)) ?_
    obtain ⟨h_17, e_18, hF⟩ := zlet_ob hF
    refine z_putIE (n := 58) dX8_go_55 rfl zok7 fX8_39_7 (Or.inl ⟨_, rfl, rfl⟩) rfl ⟨rfl, rfl⟩ hk_15 (zbig hb_16) rfl ?_
    refine z_toI e_18 ?_
    refine z_aload_n (n := 59) dX8_go_58 rfl 0 rfl rfl ?_
    obtain ⟨n_20, hk_19, hF⟩ := zka_some hF
    refine z_ldcS (n := 61) (j := 30) dX8_go_59 rfl zlit_X8_9 (by decide) (znn hk_19) ?_
    obtain ⟨n_21, hk_22, hF⟩ := zka_some hF
    obtain ⟨h_23, e_24, hF⟩ := zlet_ob hF
    refine z_putR (r := (some 30)) (n := 64) dX8_go_61 rfl zok7 fX8_11_7 (Or.inl ⟨_, rfl, rfl⟩) rfl hk_22 (zbig hb_16) ?_
    refine z_toF e_24 ?_
    refine z_aload_n (n := 65) dX8_go_64 rfl 0 rfl rfl ?_
    refine z_iconst (n := 66) (v := 0) dX8_go_65 rfl (by decide) ?_
    obtain ⟨n_25, hk_26, hF⟩ := zka_some hF
    obtain ⟨h_27, e_28, hF⟩ := zlet_ob hF
    refine z_putIE (n := 69) dX8_go_66 rfl zok7 fX8_42_7 (Or.inl ⟨_, rfl, rfl⟩) rfl ⟨rfl, rfl⟩ hk_26 (zbig hb_16) rfl ?_
    refine z_toI e_28 ?_
    refine z_aload_n (n := 70) dX8_go_69 rfl 0 rfl rfl ?_
    refine z_aload_n (n := 71) dX8_go_70 rfl 0 rfl rfl ?_
    obtain ⟨n_29, hk_30, hF⟩ := zka_some hF
    refine z_getI (n := 74) dX8_go_71 rfl zok7 fX8_32_7 rfl hk_30 (Or.inl (zbig hb_16)) ?_
    obtain ⟨x_32, c_31, hF⟩ := zb1_some hF
    refine z_cV (n := 77) (mc2 := (cc.1 + 0)) (ms2 := (cc.2 + 0)) (st := []) (C_X8_byteAt htr c_31) dX8_go_74 rfl (lw_V q979 q981 qs14 q132 q982) hcee_X8_byteAt rfl (by decide) hk_30 rfl rfl rfl (Nat.le_of_ble_eq_true rfl) (Nat.le_refl _) (Nat.le_refl _) ?_
    refine z_istore_nE (n := 78) (lv' := [(1, .int x_32), (0, .ref o0)]) dX8_go_77 rfl rfl rfl (by decide) rfl ?_
    refine z_aload_n (n := 79) dX8_go_78 rfl 1 rfl rfl ?_
    refine z_getI (n := 82) dX8_go_79 rfl zok7 fX8_32_7 rfl hk_30 (Or.inl (zbig hb_16)) ?_
    refine z_aload_n (n := 83) dX8_go_82 rfl 1 rfl rfl ?_
    refine z_getI (n := 86) dX8_go_83 rfl zok7 fX8_25_7 rfl hk_30 (Or.inl (zbig hb_16)) ?_
    refine z_icmp_lt (n := 89) (t := 99) dX8_go_86 rfl (by decide) (fun hc => ?_) (fun hc => ?_)
    · replace hF := (if_pos hc).symm.trans hF
      refine z_iload_n (n := 100) dX8_go_99 rfl 0 rfl rfl ?_
      obtain ⟨x_34, c_33, hF⟩ := zb1_some hF
      refine z_cS (n := 103) (mc2 := (cc.1 + 0)) (ms2 := (cc.2 + 0)) (st := []) (C_X8_isLetter htr c_33) dX8_go_100 rfl (lw_S q985 q986 q132 q987) hcee_X8_isLetter rfl (by decide) rfl (Nat.le_of_ble_eq_true rfl) (Nat.le_refl _) (Nat.le_refl _) ?_
      refine z_if_eq (n := 106) (t := 184) dX8_go_103 rfl (by decide) (fun hc => ?_) (fun hc => ?_)
      · replace hF := (if_pos hc).symm.trans hF
        refine z_iload_n (n := 185) dX8_go_184 rfl 0 rfl rfl ?_
        obtain ⟨x_36, c_35, hF⟩ := zb1_some hF
        refine z_cS (n := 188) (mc2 := (cc.1 + 0)) (ms2 := (cc.2 + 0)) (st := []) (C_X8_isDigit htr c_35) dX8_go_185 rfl (lw_S q1016 q1017 q132 q1018) hcee_X8_isDigit rfl (by decide) rfl (Nat.le_of_ble_eq_true rfl) (Nat.le_refl _) (Nat.le_refl _) ?_
        refine z_if_eq (n := 191) (t := 291) dX8_go_188 rfl (by decide) (fun hc => ?_) (fun hc => ?_)
        · replace hF := (if_pos hc).symm.trans hF
          refine z_aload_n (n := 292) dX8_go_291 rfl 1 rfl rfl ?_
          refine z_iload_n (n := 293) dX8_go_292 rfl 0 rfl rfl ?_
          obtain ⟨x_38, c_37, hF⟩ := zb1_some hF
          refine z_cS (n := 296) (mc2 := (cc.1 + 0)) (ms2 := (cc.2 + 0)) (st := [.ref o0]) (C_X8_isSign htr c_37) dX8_go_293 rfl (lw_S q1021 q1022 q132 q1023) hcee_X8_isSign rfl (by decide) rfl (Nat.le_of_ble_eq_true rfl) (Nat.le_refl _) (Nat.le_refl _) ?_
          obtain ⟨k_40, e_41, hF⟩ := zlet_ob hF
          have H_42 : ∀ (o_39 : Nat) (cc : Nat × Nat), k_40 o_39 = some (cc, r) → zW l G MX8_go 6 171 (cc.1 + 0) (cc.2 + 0) 308 [(0, .ref o0), (1, .int x_32)] [.ref o_39, .ref o0] (hK h_27) (jF h_27) (hI h_27) (hL h_27) (zQe (.inl none) (hK r) (jF r) (hI r) (hL r)) := by
            intro o_39 cc hF
            subst e_41
            dsimp only at hF
            obtain ⟨h_43, e_44, hF⟩ := zlet_ob hF
            refine z_putR (r := (some o_39)) (n := 311) dX8_go_308 rfl zok7 fX8_52_7 (Or.inl ⟨_, rfl, rfl⟩) rfl hk_30 (zbig hb_16) ?_
            refine z_toF e_44 ?_
            refine z_aload_n (n := 312) dX8_go_311 rfl 0 rfl rfl ?_
            obtain ⟨n_45, hk_46, hF⟩ := zka_some hF
            obtain ⟨o_47, hr_48, hF⟩ := zb1_some hF
            refine z_getRS (n := 315) dX8_go_312 rfl zok7 fX8_52_7 rfl hk_46 (Or.inl (zbig hb_16)) hr_48 ?_
            obtain ⟨hk_49, hF⟩ := zg_some hF
            refine z_gets (n := 318) (v := .ref 2) dX8_go_315 rfl zst_Sort_SIGN q1024 (fun j h => by cases h; exact ⟨by decide, zsome hk_49⟩) ?_
            obtain ⟨k_52, e_53, hF⟩ := zlet_ob hF
            have H_54 : ∀ (h_51 : zSt) (cc : Nat × Nat), k_52 h_51 = some (cc, r) → zW l G MX8_go 6 171 (cc.1 + 0) (cc.2 + 0) 330 [(0, .ref o0)] [] (hK h_51) (jF h_51) (hI h_51) (hL h_51) (zQe (.inl none) (hK r) (jF r) (hI r) (hL r)) := by
              intro h_51 cc hF
              subst e_53
              dsimp only at hF
              refine z_aload_n (n := 331) dX8_go_330 rfl 0 rfl rfl ?_
              refine z_dup (n := 332) dX8_go_331 rfl rfl ?_
              obtain ⟨n_55, hk_56, hF⟩ := zka_some hF
              refine z_getI (n := 335) dX8_go_332 rfl zok7 fX8_32_7 rfl hk_56 (Or.inl (zbig hb_16)) ?_
              refine z_iconst (n := 336) (v := 1) dX8_go_335 rfl (by decide) ?_
              refine z_iadd (n := 337) dX8_go_336 rfl ?_
              obtain ⟨h_57, e_58, hF⟩ := zlet_ob hF
              refine z_putIE (n := 340) dX8_go_337 rfl zok7 fX8_32_7 (Or.inl ⟨_, rfl, rfl⟩) rfl ⟨rfl, rfl⟩ hk_56 (zbig hb_16) rfl ?_
              refine z_toI e_58 ?_
              obtain ⟨rfl, rfl⟩ := zpair hF
              exact z_vret dX8_go_340 rfl ⟨rfl, rfl, rfl, rfl, rfl⟩
            clear e_53
            obtain ⟨hz_50, hF⟩ := zg_some hF
            refine z_acmp_ne (r1 := (some o_47)) (r2 := (some 2)) (n := 321) (t := 330) dX8_go_318 rfl (by decide) (zcmpok_ok hz_50) (fun hc => ?_) (fun hc => ?_)
            · replace hF := (if_pos hc).symm.trans hF
              refine z_sub [0] rfl ?_
              exact H_54 h_43 _ hF
            · replace hF := (if_neg (not_not_intro hc)).symm.trans hF
              refine z_aload_n (n := 322) dX8_go_321 rfl 0 rfl rfl ?_
              refine z_iload_n (n := 323) dX8_go_322 rfl 1 rfl rfl ?_
              refine z_i2c (n := 324) dX8_go_323 rfl ?_
              obtain ⟨c_62, t_63, c_59, hF⟩ := zc1_some hF
              obtain ⟨q_60, h_61⟩ := t_63
              dsimp only [zn2] at hF
              obtain ⟨cc, hF, hcc⟩ := zpay_some hF
              refine z_payE hcc ?_
              refine z_cS (n := 327) (mc2 := (cc.1 + 0)) (ms2 := (cc.2 + 0)) (st := [.ref o0]) (C_J9_valueOf htr c_59) dX8_go_324 rfl (lw_S q1028 q1029 q116 q1030) hcee_J9_valueOf rfl (by decide) rfl (Nat.le_of_ble_eq_true rfl) (Nat.le_of_eq (Nat.add_comm _ _)) (Nat.le_of_eq (Nat.add_comm _ _)) ?_
              obtain ⟨o_64, hr_65, hF⟩ := zb1_some hF
              rw [hr_65]
              obtain ⟨n_66, hk_67, hF⟩ := zka_some hF
              obtain ⟨h_68, e_69, hF⟩ := zlet_ob hF
              refine z_putR (r := (some o_64)) (n := 330) dX8_go_327 rfl zok7 fX8_11_7 (Or.inl ⟨_, rfl, rfl⟩) rfl hk_67 (zbig hb_16) ?_
              refine z_toF e_69 ?_
              refine z_sub [0] rfl ?_
              exact H_54 h_68 _ hF
          clear e_41
          refine z_if_eq (n := 299) (t := 305) dX8_go_296 rfl (by decide) (fun hc => ?_) (fun hc => ?_)
          · replace hF := (if_pos hc).symm.trans hF
            obtain ⟨hk_70, hF⟩ := zg_some hF
            refine z_gets (n := 308) (v := .ref 3) dX8_go_305 rfl zst_Sort_BAD q1026 (fun j h => by cases h; exact ⟨by decide, zsome hk_70⟩) ?_
            refine z_sub [1, 0] rfl ?_
            exact H_42 3 _ hF
          · replace hF := (if_neg hc).symm.trans hF
            obtain ⟨hk_71, hF⟩ := zg_some hF
            refine z_gets (n := 302) (v := .ref 2) dX8_go_299 rfl zst_Sort_SIGN q1024 (fun j h => by cases h; exact ⟨by decide, zsome hk_71⟩) ?_
            refine z_goto (t := 308) dX8_go_302 (by decide) ?_
            refine z_sub [1, 0] rfl ?_
            exact H_42 2 _ hF
        · replace hF := (if_neg hc).symm.trans hF
          refine z_aload_n (n := 192) dX8_go_191 rfl 1 rfl rfl ?_
          refine z_iconst (n := 193) (v := 0) dX8_go_192 rfl (by decide) ?_
          obtain ⟨h_72, e_73, hF⟩ := zlet_ob hF
          refine z_putIE (n := 196) dX8_go_193 rfl zok7 fX8_82_7 (Or.inl ⟨_, rfl, rfl⟩) rfl ⟨rfl, rfl⟩ hk_30 (zbig hb_16) rfl ?_
          refine z_toI e_73 ?_
          refine z_sub [1] rfl ?_
          obtain ⟨c_110, t_111, e_109, hF⟩ := zc1_some hF
          obtain ⟨cc, hF, hcc⟩ := zpay_some hF
          obtain ⟨h_94, rfl⟩ : ∃ z, z = t_111 := ⟨_, rfl⟩
          have H_112 : zW l G MX8_go 6 171 (cc.1 + 0) (cc.2 + 0) 259 [(0, .ref o0)] [] (hK h_94) (jF h_94) (hI h_94) (hL h_94) (zQe (.inl none) (hK r) (jF r) (hI r) (hL r)) := by
            refine z_aload_n (n := 260) dX8_go_259 rfl 0 rfl rfl ?_
            refine z_aload_n (n := 261) dX8_go_260 rfl 0 rfl rfl ?_
            obtain ⟨n_95, hk_96, hF⟩ := zka_some hF
            refine z_getI (n := 264) dX8_go_261 rfl zok7 fX8_32_7 rfl hk_96 (Or.inl (zbig hb_16)) ?_
            refine z_aload_n (n := 265) dX8_go_264 rfl 0 rfl rfl ?_
            refine z_getI (n := 268) dX8_go_265 rfl zok7 fX8_39_7 rfl hk_96 (Or.inl (zbig hb_16)) ?_
            refine z_isub (n := 269) dX8_go_268 rfl ?_
            refine z_iconst (n := 270) (v := 4) dX8_go_269 rfl (by decide) ?_
            obtain ⟨k_98, e_99, hF⟩ := zlet_ob hF
            have H_100 : ∀ (w_97 : Int32) (cc : Nat × Nat), k_98 w_97 = some (cc, r) → zW l G MX8_go 6 171 (cc.1 + 0) (cc.2 + 0) 278 [(0, .ref o0)] [.int w_97, .ref o0] (hK h_94) (jF h_94) (hI h_94) (hL h_94) (zQe (.inl none) (hK r) (jF r) (hI r) (hL r)) := by
              intro w_97 cc hF
              subst e_99
              dsimp only at hF
              obtain ⟨h_101, hF⟩ := zg_some hF
              obtain ⟨h_102, e_103, hF⟩ := zlet_ob hF
              refine z_putIE (n := 281) dX8_go_278 rfl zok7 fX8_42_7 (Or.inl ⟨_, rfl, rfl⟩) rfl (zfitsZ_ok h_101) hk_96 (zbig hb_16) rfl ?_
              refine z_toI e_103 ?_
              refine z_aload_n (n := 282) dX8_go_281 rfl 0 rfl rfl ?_
              obtain ⟨hk_104, hF⟩ := zg_some hF
              refine z_gets (n := 285) (v := .ref 1) dX8_go_282 rfl zst_Sort_NUMBER q1019 (fun j h => by cases h; exact ⟨by decide, zsome hk_104⟩) ?_
              obtain ⟨n_105, hk_106, hF⟩ := zka_some hF
              obtain ⟨h_107, e_108, hF⟩ := zlet_ob hF
              refine z_putR (r := (some 1)) (n := 288) dX8_go_285 rfl zok7 fX8_52_7 (Or.inl ⟨_, rfl, rfl⟩) rfl hk_106 (zbig hb_16) ?_
              refine z_toF e_108 ?_
              refine z_goto (t := 340) dX8_go_288 (by decide) ?_
              obtain ⟨rfl, rfl⟩ := zpair hF
              exact z_vret dX8_go_340 rfl ⟨rfl, rfl, rfl, rfl, rfl⟩
            clear e_99
            refine z_icmp_le (n := 273) (t := 277) dX8_go_270 rfl (by decide) (fun hc => ?_) (fun hc => ?_)
            · replace hF := (if_pos hc).symm.trans hF
              refine z_iconst (n := 278) (v := 0) dX8_go_277 rfl (by decide) ?_
              exact H_100 0 _ hF
            · replace hF := (if_neg hc).symm.trans hF
              refine z_iconst (n := 274) (v := 1) dX8_go_273 rfl (by decide) ?_
              refine z_goto (t := 278) dX8_go_274 (by decide) ?_
              exact H_100 1 _ hF
          refine z_payE hcc ?_
          refine zloopC_ind (P := fun (s : zSt) m w => zW l G MX8_go 6 171 (m + (cc.1 + 0)) (w + (cc.2 + 0)) 196 [(0, .ref o0)] [] (hK s) (jF s) (hI s) (hL s) (zQe (.inl none) (hK r) (jF r) (hI r) (hL r))) (fun s c r E9 W9 hb kl kr => ?_) e_109
          refine z_eq (Nat.add_assoc _ _ _) (Nat.add_assoc _ _ _) ?_
          exact W_X8_go_L196 (o0 := o0) htr hb (fun z0 e => kl _ e) (fun y0 e => by obtain ⟨h1, rfl, rfl⟩ := kr _ e; cases h1; exact z_eq (Nat.zero_add _) (Nat.zero_add _) H_112)
      · replace hF := (if_neg hc).symm.trans hF
        obtain ⟨cc, hF, hcc⟩ := zpay_some hF
        refine z_payE hcc ?_
        obtain ⟨hn_113, hF⟩ := zg_some hF
        obtain ⟨o_116, e_117, hF⟩ := zlet_ob hF
        obtain ⟨h_114, e_115, hF⟩ := zlet_ob hF
        refine z_newT (n := 109) dX8_go_106 rfl zok16 ⟨_, rfl, rfl, q217⟩ q988 q115 hn_113 e_117 e_115 rfl ?_
        refine z_dup (n := 110) dX8_go_109 rfl rfl ?_
        refine z_bipush (n := 112) (v := 9) dX8_go_110 rfl (by decide) ?_
        obtain ⟨c_120, h_119, c_118, hF⟩ := zc1_some hF
        obtain ⟨cc, hF, hcc⟩ := zpay_some hF
        refine z_payE hcc ?_
        refine z_cI (n := 115) (mc2 := (cc.1 + 0)) (ms2 := (cc.2 + 0)) (st := [.ref o_116]) (C_J8_init_2 htr c_118) dX8_go_112 rfl q991 q115 q989 q990 rfl hcee_J8_init_2 rfl (by decide) rfl (Nat.le_of_ble_eq_true rfl) (Nat.le_of_eq (Nat.add_comm _ _)) (Nat.le_of_eq (Nat.add_comm _ _)) ?_
        refine z_astore_nS (n := 116) (lv' := [(2, .ref o_116), (1, .int x_32), (0, .ref o0)]) dX8_go_115 rfl rfl (by decide) rfl ?_
        refine z_sub [2, 0] rfl ?_
        obtain ⟨c_170, t_171, e_169, hF⟩ := zc1_some hF
        obtain ⟨cc, hF, hcc⟩ := zpay_some hF
        obtain ⟨h_150, rfl⟩ : ∃ z, z = t_171 := ⟨_, rfl⟩
        have H_172 : zW l G MX8_go 6 171 (cc.1 + 0) (cc.2 + 0) 166 [(0, .ref o0), (2, .ref o_116)] [] (hK h_150) (jF h_150) (hI h_150) (hL h_150) (zQe (.inl none) (hK r) (jF r) (hI r) (hL r)) := by
          refine z_aload_n (n := 167) dX8_go_166 rfl 0 rfl rfl ?_
          refine z_aload_n (n := 168) dX8_go_167 rfl 1 rfl rfl ?_
          obtain ⟨n_151, hk_152, hF⟩ := zka_some hF
          obtain ⟨c_156, t_157, c_153, hF⟩ := zc1_some hF
          obtain ⟨q_154, h_155⟩ := t_157
          dsimp only [zn2] at hF
          obtain ⟨cc, hF, hcc⟩ := zpay_some hF
          refine z_payE hcc ?_
          refine z_cV (n := 171) (mc2 := (cc.1 + 0)) (ms2 := (cc.2 + 0)) (st := [.ref o0]) (C_J8_toString htr c_153) dX8_go_168 rfl (lw_V q1013 q395 q396 q115 q397) hcee_J8_toString rfl (by decide) hk_152 rfl rfl rfl (Nat.le_of_ble_eq_true rfl) (Nat.le_of_eq (Nat.add_comm _ _)) (Nat.le_of_eq (Nat.add_comm _ _)) ?_
          obtain ⟨o_158, hr_159, hF⟩ := zb1_some hF
          rw [hr_159]
          obtain ⟨n_160, hk_161, hF⟩ := zka_some hF
          obtain ⟨h_162, e_163, hF⟩ := zlet_ob hF
          refine z_putR (r := (some o_158)) (n := 174) dX8_go_171 rfl zok7 fX8_11_7 (Or.inl ⟨_, rfl, rfl⟩) rfl hk_161 (zbig hb_16) ?_
          refine z_toF e_163 ?_
          refine z_aload_n (n := 175) dX8_go_174 rfl 0 rfl rfl ?_
          obtain ⟨hk_164, hF⟩ := zg_some hF
          refine z_gets (n := 178) (v := .ref 0) dX8_go_175 rfl zst_Sort_WORD q1014 (fun j h => by cases h; exact ⟨by decide, zsome hk_164⟩) ?_
          obtain ⟨n_165, hk_166, hF⟩ := zka_some hF
          obtain ⟨h_167, e_168, hF⟩ := zlet_ob hF
          refine z_putR (r := (some 0)) (n := 181) dX8_go_178 rfl zok7 fX8_52_7 (Or.inl ⟨_, rfl, rfl⟩) rfl hk_166 (zbig hb_16) ?_
          refine z_toF e_168 ?_
          refine z_goto (t := 340) dX8_go_181 (by decide) ?_
          obtain ⟨rfl, rfl⟩ := zpair hF
          exact z_vret dX8_go_340 rfl ⟨rfl, rfl, rfl, rfl, rfl⟩
        refine z_payE hcc ?_
        refine zloopC_ind (P := fun (s : zSt) m w => zW l G MX8_go 6 171 (m + (cc.1 + 0)) (w + (cc.2 + 0)) 116 [(0, .ref o0), (2, .ref o_116)] [] (hK s) (jF s) (hI s) (hL s) (zQe (.inl none) (hK r) (jF r) (hI r) (hL r))) (fun s c r E9 W9 hb kl kr => ?_) e_169
        refine z_eq (Nat.add_assoc _ _ _) (Nat.add_assoc _ _ _) ?_
        exact W_X8_go_L116 (o0 := o0) htr hb (fun z0 e => kl _ e) (fun y0 e => by obtain ⟨h1, rfl, rfl⟩ := kr _ e; cases h1; exact z_eq (Nat.zero_add _) (Nat.zero_add _) H_172)
    · replace hF := (if_neg hc).symm.trans hF
      refine z_aload_n (n := 90) dX8_go_89 rfl 1 rfl rfl ?_
      obtain ⟨hk_173, hF⟩ := zg_some hF
      refine z_gets (n := 93) (v := .ref 4) dX8_go_90 rfl zst_Sort_END q983 (fun j h => by cases h; exact ⟨by decide, zsome hk_173⟩) ?_
      obtain ⟨h_174, e_175, hF⟩ := zlet_ob hF
      refine z_putR (r := (some 4)) (n := 96) dX8_go_93 rfl zok7 fX8_52_7 (Or.inl ⟨_, rfl, rfl⟩) rfl hk_30 (zbig hb_16) ?_
      refine z_toF e_175 ?_
      refine z_goto (t := 340) dX8_go_96 (by decide) ?_
      obtain ⟨rfl, rfl⟩ := zpair hF
      exact z_vret dX8_go_340 rfl ⟨rfl, rfl, rfl, rfl, rfl⟩
  refine z_payE hcc ?_
  refine zloopC_ind (P := fun (s : zSt) m w => zW l G MX8_go 6 171 (m + (cc.1 + 0)) (w + (cc.2 + 0)) 0 [(0, .ref o0)] [] (hK s) (jF s) (hI s) (hL s) (zQe (.inl none) (hK r) (jF r) (hI r) (hL r))) (fun s c r E9 W9 hb kl kr => ?_) e_176
  refine z_eq (Nat.add_assoc _ _ _) (Nat.add_assoc _ _ _) ?_
  exact W_X8_go_L0 (o0 := o0) htr hb (fun z0 e => kl _ e) (fun y0 e => by obtain ⟨h1, rfl, rfl⟩ := kr _ e; cases h1; exact z_eq (Nat.zero_add _) (Nat.zero_add _) H_179)
theorem fX8_17_7 : zFld RX8 17 7 8 := ⟨_, rfl, by decide, _, Or.inl q1050, Or.inl rfl⟩
theorem hcee_X8_go : zCee yX8_go RX8 0 := ⟨rfl, by decide +kernel, by decide +kernel, by decide +kernel⟩
abbrev MX8_init : zM := (RX8, cX8_init, 3, none, "<init>", [])
noncomputable def F_X8_init (o0 : Nat) (a0 : Nat) (a1 : Int32) (h : zSt) : Option ((Nat × Nat) × (zSt)) := zka (hK h) 30 15 (fun n_2 => zka (hK h) o0 7 (fun n_3 => zg (decide (600 ≤ o0)) (zlet (zsF h (zu (jF h) o0 7 (some 30))) (fun h_6 => zpay (1, 4) (zg (zfree h_6) (zlet (hN h_6) (fun o_11 => zlet (znA h_6 66 4) (fun h_9 => zka (hK h_9) o0 7 (fun n_13 => zlet (zsF h_9 (zu (jF h_9) o0 8 (some o_11))) (fun h_15 => zka (hK h_15) o0 7 (fun n_17 => zlet (zsF h_15 (zu (jF h_15) o0 0 (some a0))) (fun h_19 => zka (hK h_19) o0 7 (fun n_21 => zlet (zsI h_19 (zu (hI h_19) o0 1 a1)) (fun h_23 => zka (hK h_23) o0 7 (fun n_25 => zc1 (F_X8_go o0 h_23) (fun c_29 h_28 => zpay c_29 (some ((0, 0), h_28))))))))))))))))))
set_option maxHeartbeats 1000000 in
theorem C_X8_init {l : Launch} {G : zGt} (htr : l.stackTraces = false) {o0 : Nat} {a0 : Nat} {a1 : Int32} {h : zSt} {cc : Nat × Nat} {r : zSt} (hF : F_X8_init o0 a0 a1 h = some (cc, r)) : zMet l G yX8_init (ws_ yX8_init cX8_init 3 none) 7 193 (cc.1 + 0) (cc.2 + 0) [.ref o0, .ref a0, .int a1] (hK h) (jF h) (hI h) (hL h) (zQe (.inl none) (hK r) (jF r) (hI r) (hL r)) := by
  refine zMet.of (by decide +kernel) htr (Nat.le_of_ble_eq_true rfl) ?_
  change zW l G MX8_init 7 193 (cc.1 + 0) (cc.2 + 0) 0 [(0, .ref o0), (1, .ref a0), (2, .int a1)] [] (hK h) (jF h) (hI h) (hL h) (zQe (.inl none) (hK r) (jF r) (hI r) (hL r))
  unfold F_X8_init at hF
  refine z_aload_n (n := 1) dX8_init_0 rfl 0 rfl rfl ?_
  refine z_objInit (n := 4) dX8_init_1 rfl q973 q151 q152 (by decide) (Nat.le_of_ble_eq_true rfl) ?_
  refine z_aload_n (n := 5) dX8_init_4 rfl 0 rfl rfl ?_
  obtain ⟨n_2, hk_1, hF⟩ := zka_some hF
  refine z_ldcS (n := 7) (j := 30) dX8_init_5 rfl zlit_X8_9 (by decide) (znn hk_1) ?_
  obtain ⟨n_3, hk_4, hF⟩ := zka_some hF
  obtain ⟨hb_5, hF⟩ := zg_some hF
  obtain ⟨h_6, e_7, hF⟩ := zlet_ob hF
  refine z_putR (r := (some 30)) (n := 10) dX8_init_7 rfl zok7 fX8_11_7 (Or.inl ⟨_, rfl, rfl⟩) rfl hk_4 (zbig hb_5) ?_
  refine z_toF e_7 ?_
  refine z_aload_n (n := 11) dX8_init_10 rfl 0 rfl rfl ?_
  refine z_iconst (n := 12) (v := 4) dX8_init_11 rfl (by decide) ?_
  obtain ⟨cc, hF, hcc⟩ := zpay_some hF
  refine z_payE hcc ?_
  obtain ⟨hn_8, hF⟩ := zg_some hF
  obtain ⟨o_11, e_12, hF⟩ := zlet_ob hF
  obtain ⟨h_9, e_10, hF⟩ := zlet_ob hF
  refine z_newaT (t := 2) (n := 14) .boolean dX8_init_12 rfl rfl (by decide) q1070 (by decide) (by decide) (by decide) hn_8 e_12 e_10 ?_
  obtain ⟨n_13, hk_14, hF⟩ := zka_some hF
  obtain ⟨h_15, e_16, hF⟩ := zlet_ob hF
  refine z_putR (r := (some o_11)) (n := 17) dX8_init_14 rfl zok7 fX8_17_7 (Or.inr ⟨rfl, _, rfl, rfl, rfl⟩) rfl hk_14 (zbig hb_5) ?_
  refine z_toF e_16 ?_
  refine z_aload_n (n := 18) dX8_init_17 rfl 0 rfl rfl ?_
  refine z_aload_n (n := 19) dX8_init_18 rfl 1 rfl rfl ?_
  obtain ⟨n_17, hk_18, hF⟩ := zka_some hF
  obtain ⟨h_19, e_20, hF⟩ := zlet_ob hF
  refine z_putR (r := (some a0)) (n := 22) dX8_init_19 rfl zok7 fX8_21_7 (Or.inr ⟨rfl, _, rfl, rfl, rfl⟩) rfl hk_18 (zbig hb_5) ?_
  refine z_toF e_20 ?_
  refine z_aload_n (n := 23) dX8_init_22 rfl 0 rfl rfl ?_
  refine z_iload_n (n := 24) dX8_init_23 rfl 2 rfl rfl ?_
  obtain ⟨n_21, hk_22, hF⟩ := zka_some hF
  obtain ⟨h_23, e_24, hF⟩ := zlet_ob hF
  refine z_putIE (n := 27) dX8_init_24 rfl zok7 fX8_25_7 (Or.inr ⟨rfl, _, rfl, rfl, rfl⟩) rfl ⟨rfl, rfl⟩ hk_22 (zbig hb_5) rfl ?_
  refine z_toI e_24 ?_
  refine z_aload_n (n := 28) dX8_init_27 rfl 0 rfl rfl ?_
  obtain ⟨n_25, hk_26, hF⟩ := zka_some hF
  obtain ⟨c_29, h_28, c_27, hF⟩ := zc1_some hF
  obtain ⟨cc, hF, hcc⟩ := zpay_some hF
  refine z_payE hcc ?_
  refine z_cV (n := 31) (mc2 := (cc.1 + 0)) (ms2 := (cc.2 + 0)) (st := []) (C_X8_go htr c_27) dX8_init_28 rfl (lw_V q975 q977 qs13 q132 q978) hcee_X8_go rfl (by decide) hk_26 rfl rfl rfl (Nat.le_of_ble_eq_true rfl) (Nat.le_of_eq (Nat.add_comm _ _)) (Nat.le_of_eq (Nat.add_comm _ _)) ?_
  obtain ⟨rfl, rfl⟩ := zpair hF
  exact z_vret dX8_init_31 rfl ⟨rfl, rfl, rfl, rfl, rfl⟩
theorem hcee_J9_equals : zCee yJ9_equals RJ9 1 := ⟨rfl, by decide +kernel, by decide +kernel, by decide +kernel⟩
abbrev MX8_is : zM := (RX8, cX8_is, 2, (some .boolean), "is", [])
noncomputable def F_X8_is (K : zKd) (F : zFd) (o0 : Nat) (a0 : Nat) (I : zId) : Option (Int32) := zka K o0 7 (fun n_1 => zg (decide (600 ≤ o0)) (zb1 (F o0 6) (fun o_4 => zg (K 0).isSome (zg (zcmpok (some o_4) (some 0)) (if (some o_4) = (some 0) then zb1 (F o0 7) (fun o_8 => zka K o_8 15 (fun n_10 => zb1 (F_J9_equals K F o_8 a0 I) (fun x_13 => if x_13 = 0 then some 0 else some 1))) else zb1 (F o0 6) (fun o_14 => zg (K 2).isSome (zg (zcmpok (some o_14) (some 2)) (if ¬ (some o_14) = (some 2) then some 0 else zb1 (F o0 7) (fun o_18 => zka K o_18 15 (fun n_20 => zb1 (F_J9_equals K F o_18 a0 I) (fun x_23 => if x_23 = 0 then some 0 else some 1)))))))))))
set_option maxHeartbeats 1000000 in
theorem C_X8_is {l : Launch} {G : zGt} (htr : l.stackTraces = false) {K : zKd} {F : zFd} {L : zLd} {o0 : Nat} {a0 : Nat} {I : zId} {r : Int32} (hF : F_X8_is K F o0 a0 I = some r) : zMet l G yX8_is (ws_ yX8_is cX8_is 2 (some .boolean)) 2 44 0 0 [.ref o0, .ref a0] K F I L (zQe (.inl (some (.int r))) K F I L) := by
  refine zMet.of (by decide +kernel) htr (Nat.le_of_ble_eq_true rfl) ?_
  change zW l G MX8_is 2 44 0 0 0 [(0, .ref o0), (1, .ref a0)] [] K F I L (zQe (.inl (some (.int r))) K F I L)
  unfold F_X8_is at hF
  refine z_aload_n (n := 1) dX8_is_0 rfl 0 rfl rfl ?_
  obtain ⟨n_1, hk_2, hF⟩ := zka_some hF
  obtain ⟨hb_3, hF⟩ := zg_some hF
  obtain ⟨o_4, hr_5, hF⟩ := zb1_some hF
  refine z_getRS (n := 4) dX8_is_1 rfl zok7 fX8_52_7 rfl hk_2 (Or.inl (zbig hb_3)) hr_5 ?_
  obtain ⟨hk_6, hF⟩ := zg_some hF
  refine z_gets (n := 7) (v := .ref 0) dX8_is_4 rfl zst_Sort_WORD q1014 (fun j h => by cases h; exact ⟨by decide, zsome hk_6⟩) ?_
  obtain ⟨hz_7, hF⟩ := zg_some hF
  refine z_acmp_eq (r1 := (some o_4)) (r2 := (some 0)) (n := 10) (t := 20) dX8_is_7 rfl (by decide) (zcmpok_ok hz_7) (fun hc => ?_) (fun hc => ?_)
  · replace hF := (if_pos hc).symm.trans hF
    refine z_aload_n (n := 21) dX8_is_20 rfl 0 rfl rfl ?_
    obtain ⟨o_8, hr_9, hF⟩ := zb1_some hF
    refine z_getRS (n := 24) dX8_is_21 rfl zok7 fX8_11_7 rfl hk_2 (Or.inl (zbig hb_3)) hr_9 ?_
    refine z_aload_n (n := 25) dX8_is_24 rfl 1 rfl rfl ?_
    obtain ⟨n_10, hk_11, hF⟩ := zka_some hF
    obtain ⟨x_13, c_12, hF⟩ := zb1_some hF
    refine z_cV (n := 28) (st := []) (C_J9_equals htr c_12) dX8_is_25 rfl (lw_V q1082 q1083 q1084 q116 q1085) hcee_J9_equals rfl (by decide) hk_11 rfl rfl rfl (Nat.le_of_ble_eq_true rfl) (Nat.le_refl _) (Nat.le_refl _) ?_
    refine z_if_eq (n := 31) (t := 35) dX8_is_28 rfl (by decide) (fun hc => ?_) (fun hc => ?_)
    · replace hF := (if_pos hc).symm.trans hF
      refine z_iconst (n := 36) (v := 0) dX8_is_35 rfl (by decide) ?_
      have hF := Option.some.inj hF; subst hF
      exact z_iret dX8_is_36 rfl rfl ⟨rfl, rfl, rfl, rfl, rfl⟩
    · replace hF := (if_neg hc).symm.trans hF
      refine z_iconst (n := 32) (v := 1) dX8_is_31 rfl (by decide) ?_
      refine z_goto (t := 36) dX8_is_32 (by decide) ?_
      have hF := Option.some.inj hF; subst hF
      exact z_iret dX8_is_36 rfl rfl ⟨rfl, rfl, rfl, rfl, rfl⟩
  · replace hF := (if_neg hc).symm.trans hF
    refine z_aload_n (n := 11) dX8_is_10 rfl 0 rfl rfl ?_
    obtain ⟨o_14, hr_15, hF⟩ := zb1_some hF
    refine z_getRS (n := 14) dX8_is_11 rfl zok7 fX8_52_7 rfl hk_2 (Or.inl (zbig hb_3)) hr_15 ?_
    obtain ⟨hk_16, hF⟩ := zg_some hF
    refine z_gets (n := 17) (v := .ref 2) dX8_is_14 rfl zst_Sort_SIGN q1024 (fun j h => by cases h; exact ⟨by decide, zsome hk_16⟩) ?_
    obtain ⟨hz_17, hF⟩ := zg_some hF
    refine z_acmp_ne (r1 := (some o_14)) (r2 := (some 2)) (n := 20) (t := 35) dX8_is_17 rfl (by decide) (zcmpok_ok hz_17) (fun hc => ?_) (fun hc => ?_)
    · replace hF := (if_pos hc).symm.trans hF
      refine z_iconst (n := 36) (v := 0) dX8_is_35 rfl (by decide) ?_
      have hF := Option.some.inj hF; subst hF
      exact z_iret dX8_is_36 rfl rfl ⟨rfl, rfl, rfl, rfl, rfl⟩
    · replace hF := (if_neg (not_not_intro hc)).symm.trans hF
      refine z_aload_n (n := 21) dX8_is_20 rfl 0 rfl rfl ?_
      obtain ⟨o_18, hr_19, hF⟩ := zb1_some hF
      refine z_getRS (n := 24) dX8_is_21 rfl zok7 fX8_11_7 rfl hk_2 (Or.inl (zbig hb_3)) hr_19 ?_
      refine z_aload_n (n := 25) dX8_is_24 rfl 1 rfl rfl ?_
      obtain ⟨n_20, hk_21, hF⟩ := zka_some hF
      obtain ⟨x_23, c_22, hF⟩ := zb1_some hF
      refine z_cV (n := 28) (st := []) (C_J9_equals htr c_22) dX8_is_25 rfl (lw_V q1082 q1083 q1084 q116 q1085) hcee_J9_equals rfl (by decide) hk_21 rfl rfl rfl (Nat.le_of_ble_eq_true rfl) (Nat.le_refl _) (Nat.le_refl _) ?_
      refine z_if_eq (n := 31) (t := 35) dX8_is_28 rfl (by decide) (fun hc => ?_) (fun hc => ?_)
      · replace hF := (if_pos hc).symm.trans hF
        refine z_iconst (n := 36) (v := 0) dX8_is_35 rfl (by decide) ?_
        have hF := Option.some.inj hF; subst hF
        exact z_iret dX8_is_36 rfl rfl ⟨rfl, rfl, rfl, rfl, rfl⟩
      · replace hF := (if_neg hc).symm.trans hF
        refine z_iconst (n := 32) (v := 1) dX8_is_31 rfl (by decide) ?_
        refine z_goto (t := 36) dX8_is_32 (by decide) ?_
        have hF := Option.some.inj hF; subst hF
        exact z_iret dX8_is_36 rfl rfl ⟨rfl, rfl, rfl, rfl, rfl⟩
theorem hcee_X9_init : zCee yX9_init RX9 2 := ⟨rfl, by decide +kernel, by decide +kernel, by decide +kernel⟩
abbrev MX8_check : zM := (RX8, cX8_check, 3, none, "check", [])
noncomputable def F_X8_check (o0 : Nat) (a0 : Int32) (a1 : Int32) (h : zSt) : Option ((Nat × Nat) × ((Unit ⊕ (String × Nat)) × zSt)) := if ¬ a0 = 0 then some ((0, 0), (.inl (), h)) else zpay (1, 8) (zg (zfree h) (zlet (hN h) (fun o_4 => zlet (znA h 8 0) (fun h_2 => zka (hK h_2) o0 7 (fun n_6 => zg (decide (600 ≤ o0)) (zc1 (F_X9_init o_4 a1 ((hI h_2) o0 3) h_2) (fun c_11 h_10 => zpay c_11 (zka (hK h_10) o_4 8 (fun n_12 => zg (decide (600 ≤ o_4)) (zg (decide (n_12 = 0)) (some ((0, 0), (.inr ("SableCrown$Fault", o_4), h_10)))))))))))))
set_option maxHeartbeats 1000000 in
theorem C_X8_check {l : Launch} {G : zGt} (htr : l.stackTraces = false) {o0 : Nat} {a0 : Int32} {a1 : Int32} {h : zSt} {cc : Nat × Nat} {r : (Unit ⊕ (String × Nat)) × zSt} (hF : F_X8_check o0 a0 a1 h = some (cc, r)) : zMet l G yX8_check (ws_ yX8_check cX8_check 3 none) 9 162 (cc.1 + 0) (cc.2 + 0) [.ref o0, .int a0, .int a1] (hK h) (jF h) (hI h) (hL h) (zQe (zov r.1) (hK r.2) (jF r.2) (hI r.2) (hL r.2)) := by
  refine zMet.of (by decide +kernel) htr (Nat.le_of_ble_eq_true rfl) ?_
  change zW l G MX8_check 9 162 (cc.1 + 0) (cc.2 + 0) 0 [(0, .ref o0), (1, .int a0), (2, .int a1)] [] (hK h) (jF h) (hI h) (hL h) (zQe (zov r.1) (hK r.2) (jF r.2) (hI r.2) (hL r.2))
  unfold F_X8_check at hF
  refine z_iload_n (n := 1) dX8_check_0 rfl 1 rfl rfl ?_
  refine z_if_ne (n := 4) (t := 17) dX8_check_1 rfl (by decide) (fun hc => ?_) (fun hc => ?_)
  · replace hF := (if_pos hc).symm.trans hF
    obtain ⟨rfl, rfl⟩ := zpair hF
    exact z_vret dX8_check_17 rfl ⟨rfl, rfl, rfl, rfl, rfl⟩
  · replace hF := (if_neg hc).symm.trans hF
    obtain ⟨cc, hF, hcc⟩ := zpay_some hF
    refine z_payE hcc ?_
    obtain ⟨hn_1, hF⟩ := zg_some hF
    obtain ⟨o_4, e_5, hF⟩ := zlet_ob hF
    obtain ⟨h_2, e_3, hF⟩ := zlet_ob hF
    refine z_newT (n := 7) dX8_check_4 rfl zok8 ⟨_, rfl, rfl, q1095⟩ q1094 q134 hn_1 e_5 e_3 rfl ?_
    refine z_dup (n := 8) dX8_check_7 rfl rfl ?_
    refine z_iload_n (n := 9) dX8_check_8 rfl 2 rfl rfl ?_
    refine z_aload_n (n := 10) dX8_check_9 rfl 0 rfl rfl ?_
    obtain ⟨n_6, hk_7, hF⟩ := zka_some hF
    obtain ⟨hb_8, hF⟩ := zg_some hF
    refine z_getI (n := 13) dX8_check_10 rfl zok7 fX8_39_7 rfl hk_7 (Or.inl (zbig hb_8)) ?_
    obtain ⟨c_11, h_10, c_9, hF⟩ := zc1_some hF
    obtain ⟨cc, hF, hcc⟩ := zpay_some hF
    refine z_payE hcc ?_
    refine z_cI (n := 16) (mc2 := (cc.1 + 0)) (ms2 := (cc.2 + 0)) (st := [.ref o_4]) (C_X9_init htr c_9) dX8_check_13 rfl q1105 q134 q1103 q1104 rfl hcee_X9_init rfl (by decide) rfl (Nat.le_of_ble_eq_true rfl) (Nat.le_of_eq (Nat.add_comm _ _)) (Nat.le_of_eq (Nat.add_comm _ _)) ?_
    obtain ⟨n_12, hk_13, hF⟩ := zka_some hF
    obtain ⟨hb_14, hF⟩ := zg_some hF
    obtain ⟨h_15, hF⟩ := zg_some hF
    obtain ⟨rfl, rfl⟩ := zpair hF
    exact z_athrow dX8_check_16 (zbig hb_14) hk_13 rfl (fun _ => (zk80 hk_13 (of_decide_eq_true h_15))) (z_out rfl ⟨rfl, rfl, rfl, rfl, rfl⟩)
theorem hcee_X8_check : zCee yX8_check RX8 2 := ⟨rfl, by decide +kernel, by decide +kernel, by decide +kernel⟩
theorem hcee_X8_is : zCee yX8_is RX8 1 := ⟨rfl, by decide +kernel, by decide +kernel, by decide +kernel⟩
abbrev MX8_need : zM := (RX8, cX8_need, 2, none, "need", [])
noncomputable def F_X8_need (o0 : Nat) (a0 : Nat) (h : zSt) : Option ((Nat × Nat) × ((Unit ⊕ (String × Nat)) × zSt)) := zka (hK h) o0 7 (fun n_1 => zb1 (F_X8_is (hK h) (jF h) o0 a0 (hI h)) (fun x_4 => zc1 (F_X8_check o0 x_4 1 h) (fun c_8 => zn2 (fun s_6 h_7 => zpay c_8 (zsum s_6 (fun x_11 => zka (hK h_7) o0 7 (fun n_13 => zc1 (F_X8_go o0 h_7) (fun c_17 h_16 => zpay c_17 (some ((0, 0), (.inl (), h_16)))))) (fun w_12 => some ((0, 0), (.inr w_12, h_7))))))))
set_option maxHeartbeats 1000000 in
theorem C_X8_need {l : Launch} {G : zGt} (htr : l.stackTraces = false) {o0 : Nat} {a0 : Nat} {h : zSt} {cc : Nat × Nat} {r : (Unit ⊕ (String × Nat)) × zSt} (hF : F_X8_need o0 a0 h = some (cc, r)) : zMet l G yX8_need (ws_ yX8_need cX8_need 2 none) 10 193 (cc.1 + 0) (cc.2 + 0) [.ref o0, .ref a0] (hK h) (jF h) (hI h) (hL h) (zQe (zov r.1) (hK r.2) (jF r.2) (hI r.2) (hL r.2)) := by
  refine zMet.of (by decide +kernel) htr (Nat.le_of_ble_eq_true rfl) ?_
  change zW l G MX8_need 10 193 (cc.1 + 0) (cc.2 + 0) 0 [(0, .ref o0), (1, .ref a0)] [] (hK h) (jF h) (hI h) (hL h) (zQe (zov r.1) (hK r.2) (jF r.2) (hI r.2) (hL r.2))
  unfold F_X8_need at hF
  refine z_aload_n (n := 1) dX8_need_0 rfl 0 rfl rfl ?_
  refine z_aload_n (n := 2) dX8_need_1 rfl 0 rfl rfl ?_
  refine z_aload_n (n := 3) dX8_need_2 rfl 1 rfl rfl ?_
  obtain ⟨n_1, hk_2, hF⟩ := zka_some hF
  obtain ⟨x_4, c_3, hF⟩ := zb1_some hF
  refine z_cV (n := 6) (mc2 := (cc.1 + 0)) (ms2 := (cc.2 + 0)) (st := [.ref o0]) (C_X8_is htr c_3) dX8_need_3 rfl (lw_V q1078 q1080 qs15 q132 q1081) hcee_X8_is rfl (by decide) hk_2 rfl rfl rfl (Nat.le_of_ble_eq_true rfl) (Nat.le_refl _) (Nat.le_refl _) ?_
  refine z_iconst (n := 7) (v := 1) dX8_need_6 rfl (by decide) ?_
  obtain ⟨c_8, t_9, c_5, hF⟩ := zc1_some hF
  obtain ⟨s_6, h_7⟩ := t_9
  dsimp only [zn2] at hF
  obtain ⟨cc, hF, hcc⟩ := zpay_some hF
  refine z_payE hcc ?_
  rcases zsum_some hF with ⟨x_11, e_10, hF⟩ | ⟨w_12, e_10, hF⟩
  rotate_left
  · first | rw [e_10] at c_5 ⊢ | rw [e_10] at c_5
    obtain ⟨rfl, rfl⟩ := zpair hF
    refine z_cVx (n := 10) (mc2 := (((0, 0) : Nat × Nat).1 + 0)) (ms2 := (((0, 0) : Nat × Nat).2 + 0)) (st := []) (C_X8_check htr c_5) dX8_need_7 rfl (lw_V q1090 q1092 qs16 q132 q1093) hcee_X8_check rfl (by decide) hk_2 rfl rfl rfl (Nat.le_of_ble_eq_true rfl) (Nat.le_of_eq (Nat.add_comm _ _)) (Nat.le_of_eq (Nat.add_comm _ _)) ?_
    exact z_out rfl ⟨rfl, rfl, rfl, rfl, rfl⟩
  first | rw [e_10] at c_5 ⊢ | rw [e_10] at c_5
  refine z_cV (n := 10) (mc2 := (cc.1 + 0)) (ms2 := (cc.2 + 0)) (st := []) (C_X8_check htr c_5) dX8_need_7 rfl (lw_V q1090 q1092 qs16 q132 q1093) hcee_X8_check rfl (by decide) hk_2 rfl rfl rfl (Nat.le_of_ble_eq_true rfl) (Nat.le_of_eq (Nat.add_comm _ _)) (Nat.le_of_eq (Nat.add_comm _ _)) ?_
  refine z_aload_n (n := 11) dX8_need_10 rfl 0 rfl rfl ?_
  obtain ⟨n_13, hk_14, hF⟩ := zka_some hF
  obtain ⟨c_17, h_16, c_15, hF⟩ := zc1_some hF
  obtain ⟨cc, hF, hcc⟩ := zpay_some hF
  refine z_payE hcc ?_
  refine z_cV (n := 14) (mc2 := (cc.1 + 0)) (ms2 := (cc.2 + 0)) (st := []) (C_X8_go htr c_15) dX8_need_11 rfl (lw_V q975 q977 qs13 q132 q978) hcee_X8_go rfl (by decide) hk_14 rfl rfl rfl (Nat.le_of_ble_eq_true rfl) (Nat.le_of_eq (Nat.add_comm _ _)) (Nat.le_of_eq (Nat.add_comm _ _)) ?_
  obtain ⟨rfl, rfl⟩ := zpair hF
  exact z_vret dX8_need_14 rfl ⟨rfl, rfl, rfl, rfl, rfl⟩
abbrev MX8_number : zM := (RX8, cX8_number, 4, (some .int), "number", [])
noncomputable def F_X8_number (o0 : Nat) (a0 : Int32) (a1 : Int32) (h : zSt) : Option ((Nat × Nat) × ((Int32 ⊕ (String × Nat)) × zSt)) := zka (hK h) o0 7 (fun n_1 => zg (decide (600 ≤ o0)) (zb1 ((jF h) o0 6) (fun o_4 => zg ((hK h) 1).isSome (zlet (fun (w_8 : Int32) => zc1 (F_X8_check o0 w_8 1 h) (fun c_15 => zn2 (fun s_13 h_14 => zpay c_15 (zsum s_13 (fun x_18 => zka (hK h_14) o0 7 (fun n_20 => zlet (fun (w_22 : Int32) => zc1 (F_X8_check o0 w_22 2 h_14) (fun c_29 => zn2 (fun s_27 h_28 => zpay c_29 (zsum s_27 (fun x_32 => zka (hK h_28) o0 7 (fun n_34 => zlet ((hI h_28) o0 4) (fun v3_36 => zc1 (F_X8_go o0 h_28) (fun c_40 h_39 => zpay c_40 (some ((0, 0), (.inl v3_36, h_39))))))) (fun w_33 => some ((0, 0), (.inr w_33, h_28))))))) (fun k_23 => if ¬ ((hI h_14) o0 5) = 0 then k_23 0 else if ((hI h_14) o0 4) < a0 then k_23 0 else if a1 < ((hI h_14) o0 4) then k_23 0 else k_23 1))) (fun w_19 => some ((0, 0), (.inr w_19, h_14))))))) (fun k_9 => zg (zcmpok (some o_4) (some 1)) (if ¬ (some o_4) = (some 1) then k_9 0 else k_9 1))))))
set_option maxHeartbeats 1000000 in
theorem C_X8_number {l : Launch} {G : zGt} (htr : l.stackTraces = false) {o0 : Nat} {a0 : Int32} {a1 : Int32} {h : zSt} {cc : Nat × Nat} {r : (Int32 ⊕ (String × Nat)) × zSt} (hF : F_X8_number o0 a0 a1 h = some (cc, r)) : zMet l G yX8_number (ws_ yX8_number cX8_number 4 (some .int)) 10 193 (cc.1 + 0) (cc.2 + 0) [.ref o0, .int a0, .int a1] (hK h) (jF h) (hI h) (hL h) (zQe (zoi r.1) (hK r.2) (jF r.2) (hI r.2) (hL r.2)) := by
  refine zMet.of (by decide +kernel) htr (Nat.le_of_ble_eq_true rfl) ?_
  change zW l G MX8_number 10 193 (cc.1 + 0) (cc.2 + 0) 0 [(0, .ref o0), (1, .int a0), (2, .int a1)] [] (hK h) (jF h) (hI h) (hL h) (zQe (zoi r.1) (hK r.2) (jF r.2) (hI r.2) (hL r.2))
  unfold F_X8_number at hF
  refine z_aload_n (n := 1) dX8_number_0 rfl 0 rfl rfl ?_
  refine z_aload_n (n := 2) dX8_number_1 rfl 0 rfl rfl ?_
  obtain ⟨n_1, hk_2, hF⟩ := zka_some hF
  obtain ⟨hb_3, hF⟩ := zg_some hF
  obtain ⟨o_4, hr_5, hF⟩ := zb1_some hF
  refine z_getRS (n := 5) dX8_number_2 rfl zok7 fX8_52_7 rfl hk_2 (Or.inl (zbig hb_3)) hr_5 ?_
  obtain ⟨hk_6, hF⟩ := zg_some hF
  refine z_gets (n := 8) (v := .ref 1) dX8_number_5 rfl zst_Sort_NUMBER q1019 (fun j h => by cases h; exact ⟨by decide, zsome hk_6⟩) ?_
  obtain ⟨k_9, e_10, hF⟩ := zlet_ob hF
  have H_11 : ∀ (w_8 : Int32) (cc : Nat × Nat), k_9 w_8 = some (cc, r) → zW l G MX8_number 10 193 (cc.1 + 0) (cc.2 + 0) 16 [(0, .ref o0), (1, .int a0), (2, .int a1)] [.int w_8, .ref o0] (hK h) (jF h) (hI h) (hL h) (zQe (zoi r.1) (hK r.2) (jF r.2) (hI r.2) (hL r.2)) := by
    intro w_8 cc hF
    subst e_10
    dsimp only at hF
    refine z_iconst (n := 17) (v := 1) dX8_number_16 rfl (by decide) ?_
    obtain ⟨c_15, t_16, c_12, hF⟩ := zc1_some hF
    obtain ⟨s_13, h_14⟩ := t_16
    dsimp only [zn2] at hF
    obtain ⟨cc, hF, hcc⟩ := zpay_some hF
    refine z_payE hcc ?_
    rcases zsum_some hF with ⟨x_18, e_17, hF⟩ | ⟨w_19, e_17, hF⟩
    rotate_left
    · first | rw [e_17] at c_12 ⊢ | rw [e_17] at c_12
      obtain ⟨rfl, rfl⟩ := zpair hF
      refine z_cVx (n := 20) (mc2 := (((0, 0) : Nat × Nat).1 + 0)) (ms2 := (((0, 0) : Nat × Nat).2 + 0)) (st := []) (C_X8_check htr c_12) dX8_number_17 rfl (lw_V q1090 q1092 qs16 q132 q1093) hcee_X8_check rfl (by decide) hk_2 rfl rfl rfl (Nat.le_of_ble_eq_true rfl) (Nat.le_of_eq (Nat.add_comm _ _)) (Nat.le_of_eq (Nat.add_comm _ _)) ?_
      exact z_out rfl ⟨rfl, rfl, rfl, rfl, rfl⟩
    first | rw [e_17] at c_12 ⊢ | rw [e_17] at c_12
    refine z_cV (n := 20) (mc2 := (cc.1 + 0)) (ms2 := (cc.2 + 0)) (st := []) (C_X8_check htr c_12) dX8_number_17 rfl (lw_V q1090 q1092 qs16 q132 q1093) hcee_X8_check rfl (by decide) hk_2 rfl rfl rfl (Nat.le_of_ble_eq_true rfl) (Nat.le_of_eq (Nat.add_comm _ _)) (Nat.le_of_eq (Nat.add_comm _ _)) ?_
    refine z_aload_n (n := 21) dX8_number_20 rfl 0 rfl rfl ?_
    refine z_aload_n (n := 22) dX8_number_21 rfl 0 rfl rfl ?_
    obtain ⟨n_20, hk_21, hF⟩ := zka_some hF
    refine z_getI (n := 25) dX8_number_22 rfl zok7 fX8_42_7 rfl hk_21 (Or.inl (zbig hb_3)) ?_
    obtain ⟨k_23, e_24, hF⟩ := zlet_ob hF
    have H_25 : ∀ (w_22 : Int32) (cc : Nat × Nat), k_23 w_22 = some (cc, r) → zW l G MX8_number 10 193 (cc.1 + 0) (cc.2 + 0) 49 [(0, .ref o0)] [.int w_22, .ref o0] (hK h_14) (jF h_14) (hI h_14) (hL h_14) (zQe (zoi r.1) (hK r.2) (jF r.2) (hI r.2) (hL r.2)) := by
      intro w_22 cc hF
      subst e_24
      dsimp only at hF
      refine z_iconst (n := 50) (v := 2) dX8_number_49 rfl (by decide) ?_
      obtain ⟨c_29, t_30, c_26, hF⟩ := zc1_some hF
      obtain ⟨s_27, h_28⟩ := t_30
      dsimp only [zn2] at hF
      obtain ⟨cc, hF, hcc⟩ := zpay_some hF
      refine z_payE hcc ?_
      rcases zsum_some hF with ⟨x_32, e_31, hF⟩ | ⟨w_33, e_31, hF⟩
      rotate_left
      · first | rw [e_31] at c_26 ⊢ | rw [e_31] at c_26
        obtain ⟨rfl, rfl⟩ := zpair hF
        refine z_cVx (n := 53) (mc2 := (((0, 0) : Nat × Nat).1 + 0)) (ms2 := (((0, 0) : Nat × Nat).2 + 0)) (st := []) (C_X8_check htr c_26) dX8_number_50 rfl (lw_V q1090 q1092 qs16 q132 q1093) hcee_X8_check rfl (by decide) hk_21 rfl rfl rfl (Nat.le_of_ble_eq_true rfl) (Nat.le_of_eq (Nat.add_comm _ _)) (Nat.le_of_eq (Nat.add_comm _ _)) ?_
        exact z_out rfl ⟨rfl, rfl, rfl, rfl, rfl⟩
      first | rw [e_31] at c_26 ⊢ | rw [e_31] at c_26
      refine z_cV (n := 53) (mc2 := (cc.1 + 0)) (ms2 := (cc.2 + 0)) (st := []) (C_X8_check htr c_26) dX8_number_50 rfl (lw_V q1090 q1092 qs16 q132 q1093) hcee_X8_check rfl (by decide) hk_21 rfl rfl rfl (Nat.le_of_ble_eq_true rfl) (Nat.le_of_eq (Nat.add_comm _ _)) (Nat.le_of_eq (Nat.add_comm _ _)) ?_
      refine z_aload_n (n := 54) dX8_number_53 rfl 0 rfl rfl ?_
      obtain ⟨n_34, hk_35, hF⟩ := zka_some hF
      refine z_getI (n := 57) dX8_number_54 rfl zok7 fX8_82_7 rfl hk_35 (Or.inl (zbig hb_3)) ?_
      obtain ⟨v3_36, e_37, hF⟩ := zlet_ob hF
      refine z_istore_nE (n := 58) (lv' := [(3, .int v3_36), (0, .ref o0)]) dX8_number_57 rfl e_37 rfl (by decide) rfl ?_
      refine z_aload_n (n := 59) dX8_number_58 rfl 1 rfl rfl ?_
      obtain ⟨c_40, h_39, c_38, hF⟩ := zc1_some hF
      obtain ⟨cc, hF, hcc⟩ := zpay_some hF
      refine z_payE hcc ?_
      refine z_cV (n := 62) (mc2 := (cc.1 + 0)) (ms2 := (cc.2 + 0)) (st := []) (C_X8_go htr c_38) dX8_number_59 rfl (lw_V q975 q977 qs13 q132 q978) hcee_X8_go rfl (by decide) hk_35 rfl rfl rfl (Nat.le_of_ble_eq_true rfl) (Nat.le_of_eq (Nat.add_comm _ _)) (Nat.le_of_eq (Nat.add_comm _ _)) ?_
      refine z_iload_n (n := 63) dX8_number_62 rfl 0 rfl rfl ?_
      obtain ⟨rfl, rfl⟩ := zpair hF
      exact z_iret dX8_number_63 rfl rfl ⟨rfl, rfl, rfl, rfl, rfl⟩
    clear e_24
    refine z_if_ne (n := 28) (t := 48) dX8_number_25 rfl (by decide) (fun hc => ?_) (fun hc => ?_)
    · replace hF := (if_pos hc).symm.trans hF
      refine z_iconst (n := 49) (v := 0) dX8_number_48 rfl (by decide) ?_
      refine z_sub [0] rfl ?_
      exact H_25 0 _ hF
    · replace hF := (if_neg hc).symm.trans hF
      refine z_aload_n (n := 29) dX8_number_28 rfl 0 rfl rfl ?_
      refine z_getI (n := 32) dX8_number_29 rfl zok7 fX8_82_7 rfl hk_21 (Or.inl (zbig hb_3)) ?_
      refine z_iload_n (n := 33) dX8_number_32 rfl 1 rfl rfl ?_
      refine z_icmp_lt (n := 36) (t := 48) dX8_number_33 rfl (by decide) (fun hc => ?_) (fun hc => ?_)
      · replace hF := (if_pos hc).symm.trans hF
        refine z_iconst (n := 49) (v := 0) dX8_number_48 rfl (by decide) ?_
        refine z_sub [0] rfl ?_
        exact H_25 0 _ hF
      · replace hF := (if_neg hc).symm.trans hF
        refine z_aload_n (n := 37) dX8_number_36 rfl 0 rfl rfl ?_
        refine z_getI (n := 40) dX8_number_37 rfl zok7 fX8_82_7 rfl hk_21 (Or.inl (zbig hb_3)) ?_
        refine z_iload_n (n := 41) dX8_number_40 rfl 2 rfl rfl ?_
        refine z_icmp_gt (n := 44) (t := 48) dX8_number_41 rfl (by decide) (fun hc => ?_) (fun hc => ?_)
        · replace hF := (if_pos hc).symm.trans hF
          refine z_iconst (n := 49) (v := 0) dX8_number_48 rfl (by decide) ?_
          refine z_sub [0] rfl ?_
          exact H_25 0 _ hF
        · replace hF := (if_neg hc).symm.trans hF
          refine z_iconst (n := 45) (v := 1) dX8_number_44 rfl (by decide) ?_
          refine z_goto (t := 49) dX8_number_45 (by decide) ?_
          refine z_sub [0] rfl ?_
          exact H_25 1 _ hF
  clear e_10
  obtain ⟨hz_7, hF⟩ := zg_some hF
  refine z_acmp_ne (r1 := (some o_4)) (r2 := (some 1)) (n := 11) (t := 15) dX8_number_8 rfl (by decide) (zcmpok_ok hz_7) (fun hc => ?_) (fun hc => ?_)
  · replace hF := (if_pos hc).symm.trans hF
    refine z_iconst (n := 16) (v := 0) dX8_number_15 rfl (by decide) ?_
    exact H_11 0 _ hF
  · replace hF := (if_neg (not_not_intro hc)).symm.trans hF
    refine z_iconst (n := 12) (v := 1) dX8_number_11 rfl (by decide) ?_
    refine z_goto (t := 16) dX8_number_12 (by decide) ?_
    exact H_11 1 _ hF
abbrev MX8_begins : zM := (RX8, cX8_begins, 3, (some .boolean), "begins", [])
noncomputable def F_X8_begins (o0 : Nat) (a0 : Nat) (a1 : Int32) (h : zSt) : Option ((Nat × Nat) × ((Int32 ⊕ (String × Nat)) × zSt)) := zka (hK h) o0 7 (fun n_1 => zb1 (F_X8_is (hK h) (jF h) o0 a0 (hI h)) (fun x_4 => if ¬ x_4 = 0 then zg (decide (600 ≤ o0)) (zb1 ((jF h) o0 8) (fun o_6 => zka (hK h) o_6 66 (fun n_8 => zg (zin a1 n_8) (zlet (fun (w_11 : Int32) => zc1 (F_X8_check o0 w_11 5 h) (fun c_18 => zn2 (fun s_16 h_17 => zpay c_18 (zsum s_16 (fun x_21 => zka (hK h_17) o0 7 (fun n_23 => zb1 ((jF h_17) o0 8) (fun o_25 => zka (hK h_17) o_25 66 (fun n_27 => zg (zin a1 n_27) (zg (decide (600 ≤ o_25)) (zlet (zsI h_17 (zu (hI h_17) o_25 a1.toNatClampNeg 1)) (fun h_31 => zka (hK h_31) o0 7 (fun n_33 => zc1 (F_X8_go o0 h_31) (fun c_37 h_36 => zpay c_37 (some ((0, 0), (.inl 1, h_36)))))))))))) (fun w_22 => some ((0, 0), (.inr w_22, h_17))))))) (fun k_12 => if ¬ ((hI h) o_6 a1.toNatClampNeg) = 0 then k_12 0 else k_12 1))))) else some ((0, 0), (.inl 0, h))))
set_option maxHeartbeats 1000000 in
theorem C_X8_begins {l : Launch} {G : zGt} (htr : l.stackTraces = false) {o0 : Nat} {a0 : Nat} {a1 : Int32} {h : zSt} {cc : Nat × Nat} {r : (Int32 ⊕ (String × Nat)) × zSt} (hF : F_X8_begins o0 a0 a1 h = some (cc, r)) : zMet l G yX8_begins (ws_ yX8_begins cX8_begins 3 (some .boolean)) 10 193 (cc.1 + 0) (cc.2 + 0) [.ref o0, .ref a0, .int a1] (hK h) (jF h) (hI h) (hL h) (zQe (zoi r.1) (hK r.2) (jF r.2) (hI r.2) (hL r.2)) := by
  refine zMet.of (by decide +kernel) htr (Nat.le_of_ble_eq_true rfl) ?_
  change zW l G MX8_begins 10 193 (cc.1 + 0) (cc.2 + 0) 0 [(0, .ref o0), (1, .ref a0), (2, .int a1)] [] (hK h) (jF h) (hI h) (hL h) (zQe (zoi r.1) (hK r.2) (jF r.2) (hI r.2) (hL r.2))
  unfold F_X8_begins at hF
  refine z_aload_n (n := 1) dX8_begins_0 rfl 0 rfl rfl ?_
  refine z_aload_n (n := 2) dX8_begins_1 rfl 1 rfl rfl ?_
  obtain ⟨n_1, hk_2, hF⟩ := zka_some hF
  obtain ⟨x_4, c_3, hF⟩ := zb1_some hF
  refine z_cV (n := 5) (mc2 := (cc.1 + 0)) (ms2 := (cc.2 + 0)) (st := []) (C_X8_is htr c_3) dX8_begins_2 rfl (lw_V q1078 q1080 qs15 q132 q1081) hcee_X8_is rfl (by decide) hk_2 rfl rfl rfl (Nat.le_of_ble_eq_true rfl) (Nat.le_refl _) (Nat.le_refl _) ?_
  refine z_if_ne (n := 8) (t := 10) dX8_begins_5 rfl (by decide) (fun hc => ?_) (fun hc => ?_)
  · replace hF := (if_pos hc).symm.trans hF
    refine z_aload_n (n := 11) dX8_begins_10 rfl 0 rfl rfl ?_
    refine z_aload_n (n := 12) dX8_begins_11 rfl 0 rfl rfl ?_
    obtain ⟨hb_5, hF⟩ := zg_some hF
    obtain ⟨o_6, hr_7, hF⟩ := zb1_some hF
    refine z_getRS (n := 15) dX8_begins_12 rfl zok7 fX8_17_7 rfl hk_2 (Or.inl (zbig hb_5)) hr_7 ?_
    refine z_iload_n (n := 16) dX8_begins_15 rfl 2 rfl rfl ?_
    obtain ⟨n_8, hk_9, hF⟩ := zka_some hF
    obtain ⟨h_10, hF⟩ := zg_some hF
    refine z_zaldK (n := 17) a1.toNatClampNeg rfl dX8_begins_16 rfl hk_9 (zin_ok h_10) ?_
    obtain ⟨k_12, e_13, hF⟩ := zlet_ob hF
    have H_14 : ∀ (w_11 : Int32) (cc : Nat × Nat), k_12 w_11 = some (cc, r) → zW l G MX8_begins 10 193 (cc.1 + 0) (cc.2 + 0) 25 [(0, .ref o0), (2, .int a1)] [.int w_11, .ref o0] (hK h) (jF h) (hI h) (hL h) (zQe (zoi r.1) (hK r.2) (jF r.2) (hI r.2) (hL r.2)) := by
      intro w_11 cc hF
      subst e_13
      dsimp only at hF
      refine z_iconst (n := 26) (v := 5) dX8_begins_25 rfl (by decide) ?_
      obtain ⟨c_18, t_19, c_15, hF⟩ := zc1_some hF
      obtain ⟨s_16, h_17⟩ := t_19
      dsimp only [zn2] at hF
      obtain ⟨cc, hF, hcc⟩ := zpay_some hF
      refine z_payE hcc ?_
      rcases zsum_some hF with ⟨x_21, e_20, hF⟩ | ⟨w_22, e_20, hF⟩
      rotate_left
      · first | rw [e_20] at c_15 ⊢ | rw [e_20] at c_15
        obtain ⟨rfl, rfl⟩ := zpair hF
        refine z_cVx (n := 29) (mc2 := (((0, 0) : Nat × Nat).1 + 0)) (ms2 := (((0, 0) : Nat × Nat).2 + 0)) (st := []) (C_X8_check htr c_15) dX8_begins_26 rfl (lw_V q1090 q1092 qs16 q132 q1093) hcee_X8_check rfl (by decide) hk_2 rfl rfl rfl (Nat.le_of_ble_eq_true rfl) (Nat.le_of_eq (Nat.add_comm _ _)) (Nat.le_of_eq (Nat.add_comm _ _)) ?_
        exact z_out rfl ⟨rfl, rfl, rfl, rfl, rfl⟩
      first | rw [e_20] at c_15 ⊢ | rw [e_20] at c_15
      refine z_cV (n := 29) (mc2 := (cc.1 + 0)) (ms2 := (cc.2 + 0)) (st := []) (C_X8_check htr c_15) dX8_begins_26 rfl (lw_V q1090 q1092 qs16 q132 q1093) hcee_X8_check rfl (by decide) hk_2 rfl rfl rfl (Nat.le_of_ble_eq_true rfl) (Nat.le_of_eq (Nat.add_comm _ _)) (Nat.le_of_eq (Nat.add_comm _ _)) ?_
      refine z_aload_n (n := 30) dX8_begins_29 rfl 0 rfl rfl ?_
      obtain ⟨n_23, hk_24, hF⟩ := zka_some hF
      obtain ⟨o_25, hr_26, hF⟩ := zb1_some hF
      refine z_getRS (n := 33) dX8_begins_30 rfl zok7 fX8_17_7 rfl hk_24 (Or.inl (zbig hb_5)) hr_26 ?_
      refine z_iload_n (n := 34) dX8_begins_33 rfl 1 rfl rfl ?_
      refine z_iconst (n := 35) (v := 1) dX8_begins_34 rfl (by decide) ?_
      obtain ⟨n_27, hk_28, hF⟩ := zka_some hF
      obtain ⟨h_29, hF⟩ := zg_some hF
      obtain ⟨hb_30, hF⟩ := zg_some hF
      obtain ⟨h_31, e_32, hF⟩ := zlet_ob hF
      refine z_zastK (n := 36) a1.toNatClampNeg rfl dX8_begins_35 rfl hk_28 (zbig hb_30) (zin_ok h_29) rfl ?_
      refine z_toI e_32 ?_
      refine z_aload_n (n := 37) dX8_begins_36 rfl 0 rfl rfl ?_
      obtain ⟨n_33, hk_34, hF⟩ := zka_some hF
      obtain ⟨c_37, h_36, c_35, hF⟩ := zc1_some hF
      obtain ⟨cc, hF, hcc⟩ := zpay_some hF
      refine z_payE hcc ?_
      refine z_cV (n := 40) (mc2 := (cc.1 + 0)) (ms2 := (cc.2 + 0)) (st := []) (C_X8_go htr c_35) dX8_begins_37 rfl (lw_V q975 q977 qs13 q132 q978) hcee_X8_go rfl (by decide) hk_34 rfl rfl rfl (Nat.le_of_ble_eq_true rfl) (Nat.le_of_eq (Nat.add_comm _ _)) (Nat.le_of_eq (Nat.add_comm _ _)) ?_
      refine z_iconst (n := 41) (v := 1) dX8_begins_40 rfl (by decide) ?_
      obtain ⟨rfl, rfl⟩ := zpair hF
      exact z_iret dX8_begins_41 rfl rfl ⟨rfl, rfl, rfl, rfl, rfl⟩
    clear e_13
    refine z_if_ne (n := 20) (t := 24) dX8_begins_17 rfl (by decide) (fun hc => ?_) (fun hc => ?_)
    · replace hF := (if_pos hc).symm.trans hF
      refine z_iconst (n := 25) (v := 0) dX8_begins_24 rfl (by decide) ?_
      refine z_sub [0, 2] rfl ?_
      exact H_14 0 _ hF
    · replace hF := (if_neg hc).symm.trans hF
      refine z_iconst (n := 21) (v := 1) dX8_begins_20 rfl (by decide) ?_
      refine z_goto (t := 25) dX8_begins_21 (by decide) ?_
      refine z_sub [0, 2] rfl ?_
      exact H_14 1 _ hF
  · replace hF := (if_neg hc).symm.trans hF
    refine z_iconst (n := 9) (v := 0) dX8_begins_8 rfl (by decide) ?_
    obtain ⟨rfl, rfl⟩ := zpair hF
    exact z_iret dX8_begins_9 rfl rfl ⟨rfl, rfl, rfl, rfl, rfl⟩
abbrev MX8_amongHere : zM := (RX8, cX8_amongHere, 2, (some .int), "amongHere", [])
noncomputable def F_X8_amongHere (o0 : Nat) (a0 : Int32) (h : zSt) : Option ((Nat × Nat) × ((Int32 ⊕ (String × Nat)) × zSt)) := zka (hK h) o0 7 (fun n_1 => zg (decide (600 ≤ o0)) (zb1 ((jF h) o0 6) (fun o_4 => zg ((hK h) 1).isSome (zlet (fun (w_8 : Int32) => zc1 (F_X8_check o0 w_8 1 h) (fun c_15 => zn2 (fun s_13 h_14 => zpay c_15 (zsum s_13 (fun x_18 => zka (hK h_14) o0 7 (fun n_20 => zlet (fun (w_22 : Int32) => zc1 (F_X8_check o0 w_22 2 h_14) (fun c_29 => zn2 (fun s_27 h_28 => zpay c_29 (zsum s_27 (fun x_32 => zka (hK h_28) o0 7 (fun n_34 => zlet (fun (w_36 : Int32) => zc1 (F_X8_check o0 w_36 3 h_28) (fun c_43 => zn2 (fun s_41 h_42 => zpay c_43 (zsum s_41 (fun x_46 => zka (hK h_42) o0 7 (fun n_48 => some ((0, 0), (.inl ((hI h_42) o0 4), h_42)))) (fun w_47 => some ((0, 0), (.inr w_47, h_42))))))) (fun k_37 => if a0 ≤ ((hI h_28) o0 4) then k_37 0 else k_37 1))) (fun w_33 => some ((0, 0), (.inr w_33, h_28))))))) (fun k_23 => if ¬ ((hI h_14) o0 5) = 0 then k_23 0 else k_23 1))) (fun w_19 => some ((0, 0), (.inr w_19, h_14))))))) (fun k_9 => zg (zcmpok (some o_4) (some 1)) (if ¬ (some o_4) = (some 1) then k_9 0 else k_9 1))))))
set_option maxHeartbeats 1000000 in
theorem C_X8_amongHere {l : Launch} {G : zGt} (htr : l.stackTraces = false) {o0 : Nat} {a0 : Int32} {h : zSt} {cc : Nat × Nat} {r : (Int32 ⊕ (String × Nat)) × zSt} (hF : F_X8_amongHere o0 a0 h = some (cc, r)) : zMet l G yX8_amongHere (ws_ yX8_amongHere cX8_amongHere 2 (some .int)) 10 184 (cc.1 + 0) (cc.2 + 0) [.ref o0, .int a0] (hK h) (jF h) (hI h) (hL h) (zQe (zoi r.1) (hK r.2) (jF r.2) (hI r.2) (hL r.2)) := by
  refine zMet.of (by decide +kernel) htr (Nat.le_of_ble_eq_true rfl) ?_
  change zW l G MX8_amongHere 10 184 (cc.1 + 0) (cc.2 + 0) 0 [(0, .ref o0), (1, .int a0)] [] (hK h) (jF h) (hI h) (hL h) (zQe (zoi r.1) (hK r.2) (jF r.2) (hI r.2) (hL r.2))
  unfold F_X8_amongHere at hF
  refine z_aload_n (n := 1) dX8_amongHere_0 rfl 0 rfl rfl ?_
  refine z_aload_n (n := 2) dX8_amongHere_1 rfl 0 rfl rfl ?_
  obtain ⟨n_1, hk_2, hF⟩ := zka_some hF
  obtain ⟨hb_3, hF⟩ := zg_some hF
  obtain ⟨o_4, hr_5, hF⟩ := zb1_some hF
  refine z_getRS (n := 5) dX8_amongHere_2 rfl zok7 fX8_52_7 rfl hk_2 (Or.inl (zbig hb_3)) hr_5 ?_
  obtain ⟨hk_6, hF⟩ := zg_some hF
  refine z_gets (n := 8) (v := .ref 1) dX8_amongHere_5 rfl zst_Sort_NUMBER q1019 (fun j h => by cases h; exact ⟨by decide, zsome hk_6⟩) ?_
  obtain ⟨k_9, e_10, hF⟩ := zlet_ob hF
  have H_11 : ∀ (w_8 : Int32) (cc : Nat × Nat), k_9 w_8 = some (cc, r) → zW l G MX8_amongHere 10 184 (cc.1 + 0) (cc.2 + 0) 16 [(0, .ref o0), (1, .int a0)] [.int w_8, .ref o0] (hK h) (jF h) (hI h) (hL h) (zQe (zoi r.1) (hK r.2) (jF r.2) (hI r.2) (hL r.2)) := by
    intro w_8 cc hF
    subst e_10
    dsimp only at hF
    refine z_iconst (n := 17) (v := 1) dX8_amongHere_16 rfl (by decide) ?_
    obtain ⟨c_15, t_16, c_12, hF⟩ := zc1_some hF
    obtain ⟨s_13, h_14⟩ := t_16
    dsimp only [zn2] at hF
    obtain ⟨cc, hF, hcc⟩ := zpay_some hF
    refine z_payE hcc ?_
    rcases zsum_some hF with ⟨x_18, e_17, hF⟩ | ⟨w_19, e_17, hF⟩
    rotate_left
    · first | rw [e_17] at c_12 ⊢ | rw [e_17] at c_12
      obtain ⟨rfl, rfl⟩ := zpair hF
      refine z_cVx (n := 20) (mc2 := (((0, 0) : Nat × Nat).1 + 0)) (ms2 := (((0, 0) : Nat × Nat).2 + 0)) (st := []) (C_X8_check htr c_12) dX8_amongHere_17 rfl (lw_V q1090 q1092 qs16 q132 q1093) hcee_X8_check rfl (by decide) hk_2 rfl rfl rfl (Nat.le_of_ble_eq_true rfl) (Nat.le_of_eq (Nat.add_comm _ _)) (Nat.le_of_eq (Nat.add_comm _ _)) ?_
      exact z_out rfl ⟨rfl, rfl, rfl, rfl, rfl⟩
    first | rw [e_17] at c_12 ⊢ | rw [e_17] at c_12
    refine z_cV (n := 20) (mc2 := (cc.1 + 0)) (ms2 := (cc.2 + 0)) (st := []) (C_X8_check htr c_12) dX8_amongHere_17 rfl (lw_V q1090 q1092 qs16 q132 q1093) hcee_X8_check rfl (by decide) hk_2 rfl rfl rfl (Nat.le_of_ble_eq_true rfl) (Nat.le_of_eq (Nat.add_comm _ _)) (Nat.le_of_eq (Nat.add_comm _ _)) ?_
    refine z_aload_n (n := 21) dX8_amongHere_20 rfl 0 rfl rfl ?_
    refine z_aload_n (n := 22) dX8_amongHere_21 rfl 0 rfl rfl ?_
    obtain ⟨n_20, hk_21, hF⟩ := zka_some hF
    refine z_getI (n := 25) dX8_amongHere_22 rfl zok7 fX8_42_7 rfl hk_21 (Or.inl (zbig hb_3)) ?_
    obtain ⟨k_23, e_24, hF⟩ := zlet_ob hF
    have H_25 : ∀ (w_22 : Int32) (cc : Nat × Nat), k_23 w_22 = some (cc, r) → zW l G MX8_amongHere 10 184 (cc.1 + 0) (cc.2 + 0) 33 [(0, .ref o0), (1, .int a0)] [.int w_22, .ref o0] (hK h_14) (jF h_14) (hI h_14) (hL h_14) (zQe (zoi r.1) (hK r.2) (jF r.2) (hI r.2) (hL r.2)) := by
      intro w_22 cc hF
      subst e_24
      dsimp only at hF
      refine z_iconst (n := 34) (v := 2) dX8_amongHere_33 rfl (by decide) ?_
      obtain ⟨c_29, t_30, c_26, hF⟩ := zc1_some hF
      obtain ⟨s_27, h_28⟩ := t_30
      dsimp only [zn2] at hF
      obtain ⟨cc, hF, hcc⟩ := zpay_some hF
      refine z_payE hcc ?_
      rcases zsum_some hF with ⟨x_32, e_31, hF⟩ | ⟨w_33, e_31, hF⟩
      rotate_left
      · first | rw [e_31] at c_26 ⊢ | rw [e_31] at c_26
        obtain ⟨rfl, rfl⟩ := zpair hF
        refine z_cVx (n := 37) (mc2 := (((0, 0) : Nat × Nat).1 + 0)) (ms2 := (((0, 0) : Nat × Nat).2 + 0)) (st := []) (C_X8_check htr c_26) dX8_amongHere_34 rfl (lw_V q1090 q1092 qs16 q132 q1093) hcee_X8_check rfl (by decide) hk_21 rfl rfl rfl (Nat.le_of_ble_eq_true rfl) (Nat.le_of_eq (Nat.add_comm _ _)) (Nat.le_of_eq (Nat.add_comm _ _)) ?_
        exact z_out rfl ⟨rfl, rfl, rfl, rfl, rfl⟩
      first | rw [e_31] at c_26 ⊢ | rw [e_31] at c_26
      refine z_cV (n := 37) (mc2 := (cc.1 + 0)) (ms2 := (cc.2 + 0)) (st := []) (C_X8_check htr c_26) dX8_amongHere_34 rfl (lw_V q1090 q1092 qs16 q132 q1093) hcee_X8_check rfl (by decide) hk_21 rfl rfl rfl (Nat.le_of_ble_eq_true rfl) (Nat.le_of_eq (Nat.add_comm _ _)) (Nat.le_of_eq (Nat.add_comm _ _)) ?_
      refine z_aload_n (n := 38) dX8_amongHere_37 rfl 0 rfl rfl ?_
      refine z_aload_n (n := 39) dX8_amongHere_38 rfl 0 rfl rfl ?_
      obtain ⟨n_34, hk_35, hF⟩ := zka_some hF
      refine z_getI (n := 42) dX8_amongHere_39 rfl zok7 fX8_82_7 rfl hk_35 (Or.inl (zbig hb_3)) ?_
      refine z_iload_n (n := 43) dX8_amongHere_42 rfl 1 rfl rfl ?_
      obtain ⟨k_37, e_38, hF⟩ := zlet_ob hF
      have H_39 : ∀ (w_36 : Int32) (cc : Nat × Nat), k_37 w_36 = some (cc, r) → zW l G MX8_amongHere 10 184 (cc.1 + 0) (cc.2 + 0) 51 [(0, .ref o0)] [.int w_36, .ref o0] (hK h_28) (jF h_28) (hI h_28) (hL h_28) (zQe (zoi r.1) (hK r.2) (jF r.2) (hI r.2) (hL r.2)) := by
        intro w_36 cc hF
        subst e_38
        dsimp only at hF
        refine z_iconst (n := 52) (v := 3) dX8_amongHere_51 rfl (by decide) ?_
        obtain ⟨c_43, t_44, c_40, hF⟩ := zc1_some hF
        obtain ⟨s_41, h_42⟩ := t_44
        dsimp only [zn2] at hF
        obtain ⟨cc, hF, hcc⟩ := zpay_some hF
        refine z_payE hcc ?_
        rcases zsum_some hF with ⟨x_46, e_45, hF⟩ | ⟨w_47, e_45, hF⟩
        rotate_left
        · first | rw [e_45] at c_40 ⊢ | rw [e_45] at c_40
          obtain ⟨rfl, rfl⟩ := zpair hF
          refine z_cVx (n := 55) (mc2 := (((0, 0) : Nat × Nat).1 + 0)) (ms2 := (((0, 0) : Nat × Nat).2 + 0)) (st := []) (C_X8_check htr c_40) dX8_amongHere_52 rfl (lw_V q1090 q1092 qs16 q132 q1093) hcee_X8_check rfl (by decide) hk_35 rfl rfl rfl (Nat.le_of_ble_eq_true rfl) (Nat.le_of_eq (Nat.add_comm _ _)) (Nat.le_of_eq (Nat.add_comm _ _)) ?_
          exact z_out rfl ⟨rfl, rfl, rfl, rfl, rfl⟩
        first | rw [e_45] at c_40 ⊢ | rw [e_45] at c_40
        refine z_cV (n := 55) (mc2 := (cc.1 + 0)) (ms2 := (cc.2 + 0)) (st := []) (C_X8_check htr c_40) dX8_amongHere_52 rfl (lw_V q1090 q1092 qs16 q132 q1093) hcee_X8_check rfl (by decide) hk_35 rfl rfl rfl (Nat.le_of_ble_eq_true rfl) (Nat.le_of_eq (Nat.add_comm _ _)) (Nat.le_of_eq (Nat.add_comm _ _)) ?_
        refine z_aload_n (n := 56) dX8_amongHere_55 rfl 0 rfl rfl ?_
        obtain ⟨n_48, hk_49, hF⟩ := zka_some hF
        refine z_getI (n := 59) dX8_amongHere_56 rfl zok7 fX8_82_7 rfl hk_49 (Or.inl (zbig hb_3)) ?_
        obtain ⟨rfl, rfl⟩ := zpair hF
        exact z_iret dX8_amongHere_59 rfl rfl ⟨rfl, rfl, rfl, rfl, rfl⟩
      clear e_38
      refine z_icmp_ge (n := 46) (t := 50) dX8_amongHere_43 rfl (by decide) (fun hc => ?_) (fun hc => ?_)
      · replace hF := (if_pos hc).symm.trans hF
        refine z_iconst (n := 51) (v := 0) dX8_amongHere_50 rfl (by decide) ?_
        refine z_sub [0] rfl ?_
        exact H_39 0 _ hF
      · replace hF := (if_neg hc).symm.trans hF
        refine z_iconst (n := 47) (v := 1) dX8_amongHere_46 rfl (by decide) ?_
        refine z_goto (t := 51) dX8_amongHere_47 (by decide) ?_
        refine z_sub [0] rfl ?_
        exact H_39 1 _ hF
    clear e_24
    refine z_if_ne (n := 28) (t := 32) dX8_amongHere_25 rfl (by decide) (fun hc => ?_) (fun hc => ?_)
    · replace hF := (if_pos hc).symm.trans hF
      refine z_iconst (n := 33) (v := 0) dX8_amongHere_32 rfl (by decide) ?_
      exact H_25 0 _ hF
    · replace hF := (if_neg hc).symm.trans hF
      refine z_iconst (n := 29) (v := 1) dX8_amongHere_28 rfl (by decide) ?_
      refine z_goto (t := 33) dX8_amongHere_29 (by decide) ?_
      exact H_25 1 _ hF
  clear e_10
  obtain ⟨hz_7, hF⟩ := zg_some hF
  refine z_acmp_ne (r1 := (some o_4)) (r2 := (some 1)) (n := 11) (t := 15) dX8_amongHere_8 rfl (by decide) (zcmpok_ok hz_7) (fun hc => ?_) (fun hc => ?_)
  · replace hF := (if_pos hc).symm.trans hF
    refine z_iconst (n := 16) (v := 0) dX8_amongHere_15 rfl (by decide) ?_
    exact H_11 0 _ hF
  · replace hF := (if_neg (not_not_intro hc)).symm.trans hF
    refine z_iconst (n := 12) (v := 1) dX8_amongHere_11 rfl (by decide) ?_
    refine z_goto (t := 16) dX8_amongHere_12 (by decide) ?_
    exact H_11 1 _ hF
theorem hcee_X8_amongHere : zCee yX8_amongHere RX8 1 := ⟨rfl, by decide +kernel, by decide +kernel, by decide +kernel⟩
abbrev MX8_among : zM := (RX8, cX8_among, 3, (some .int), "among", [])
noncomputable def F_X8_among (o0 : Nat) (a0 : Int32) (h : zSt) : Option ((Nat × Nat) × ((Int32 ⊕ (String × Nat)) × zSt)) := zka (hK h) o0 7 (fun n_1 => zc1 (F_X8_amongHere o0 a0 h) (fun c_6 => zn2 (fun s_4 h_5 => zpay c_6 (zsum s_4 (fun x_9 => zka (hK h_5) o0 7 (fun n_11 => zc1 (F_X8_go o0 h_5) (fun c_15 h_14 => zpay c_15 (some ((0, 0), (.inl x_9, h_14)))))) (fun w_10 => some ((0, 0), (.inr w_10, h_5)))))))
set_option maxHeartbeats 1000000 in
theorem C_X8_among {l : Launch} {G : zGt} (htr : l.stackTraces = false) {o0 : Nat} {a0 : Int32} {h : zSt} {cc : Nat × Nat} {r : (Int32 ⊕ (String × Nat)) × zSt} (hF : F_X8_among o0 a0 h = some (cc, r)) : zMet l G yX8_among (ws_ yX8_among cX8_among 3 (some .int)) 11 205 (cc.1 + 0) (cc.2 + 0) [.ref o0, .int a0] (hK h) (jF h) (hI h) (hL h) (zQe (zoi r.1) (hK r.2) (jF r.2) (hI r.2) (hL r.2)) := by
  refine zMet.of (by decide +kernel) htr (Nat.le_of_ble_eq_true rfl) ?_
  change zW l G MX8_among 11 205 (cc.1 + 0) (cc.2 + 0) 0 [(0, .ref o0), (1, .int a0)] [] (hK h) (jF h) (hI h) (hL h) (zQe (zoi r.1) (hK r.2) (jF r.2) (hI r.2) (hL r.2))
  unfold F_X8_among at hF
  refine z_aload_n (n := 1) dX8_among_0 rfl 0 rfl rfl ?_
  refine z_iload_n (n := 2) dX8_among_1 rfl 1 rfl rfl ?_
  obtain ⟨n_1, hk_2, hF⟩ := zka_some hF
  obtain ⟨c_6, t_7, c_3, hF⟩ := zc1_some hF
  obtain ⟨s_4, h_5⟩ := t_7
  dsimp only [zn2] at hF
  obtain ⟨cc, hF, hcc⟩ := zpay_some hF
  refine z_payE hcc ?_
  rcases zsum_some hF with ⟨x_9, e_8, hF⟩ | ⟨w_10, e_8, hF⟩
  rotate_left
  · first | rw [e_8] at c_3 ⊢ | rw [e_8] at c_3
    obtain ⟨rfl, rfl⟩ := zpair hF
    refine z_cVx (n := 5) (mc2 := (((0, 0) : Nat × Nat).1 + 0)) (ms2 := (((0, 0) : Nat × Nat).2 + 0)) (st := []) (C_X8_amongHere htr c_3) dX8_among_2 rfl (lw_V q1154 q1156 qs20 q132 q1157) hcee_X8_amongHere rfl (by decide) hk_2 rfl rfl rfl (Nat.le_of_ble_eq_true rfl) (Nat.le_of_eq (Nat.add_comm _ _)) (Nat.le_of_eq (Nat.add_comm _ _)) ?_
    exact z_out rfl ⟨rfl, rfl, rfl, rfl, rfl⟩
  first | rw [e_8] at c_3 ⊢ | rw [e_8] at c_3
  refine z_cV (n := 5) (mc2 := (cc.1 + 0)) (ms2 := (cc.2 + 0)) (st := []) (C_X8_amongHere htr c_3) dX8_among_2 rfl (lw_V q1154 q1156 qs20 q132 q1157) hcee_X8_amongHere rfl (by decide) hk_2 rfl rfl rfl (Nat.le_of_ble_eq_true rfl) (Nat.le_of_eq (Nat.add_comm _ _)) (Nat.le_of_eq (Nat.add_comm _ _)) ?_
  refine z_istore_nE (n := 6) (lv' := [(2, .int x_9), (0, .ref o0), (1, .int a0)]) dX8_among_5 rfl rfl rfl (by decide) rfl ?_
  refine z_aload_n (n := 7) dX8_among_6 rfl 1 rfl rfl ?_
  obtain ⟨n_11, hk_12, hF⟩ := zka_some hF
  obtain ⟨c_15, h_14, c_13, hF⟩ := zc1_some hF
  obtain ⟨cc, hF, hcc⟩ := zpay_some hF
  refine z_payE hcc ?_
  refine z_cV (n := 10) (mc2 := (cc.1 + 0)) (ms2 := (cc.2 + 0)) (st := []) (C_X8_go htr c_13) dX8_among_7 rfl (lw_V q975 q977 qs13 q132 q978) hcee_X8_go rfl (by decide) hk_12 rfl rfl rfl (Nat.le_of_ble_eq_true rfl) (Nat.le_of_eq (Nat.add_comm _ _)) (Nat.le_of_eq (Nat.add_comm _ _)) ?_
  refine z_iload_n (n := 11) dX8_among_10 rfl 0 rfl rfl ?_
  obtain ⟨rfl, rfl⟩ := zpair hF
  exact z_iret dX8_among_11 rfl rfl ⟨rfl, rfl, rfl, rfl, rfl⟩
theorem fX8_128_1 : zFld RX8 128 1 4 := ⟨_, rfl, by decide, _, Or.inr ⟨_, q539⟩, Or.inl rfl⟩
theorem fX8_150_1 : zFld RX8 150 1 3 := ⟨_, rfl, by decide, _, Or.inr ⟨_, q535⟩, Or.inl rfl⟩
theorem fX8_214_1 : zFld RX8 214 1 7 := ⟨_, rfl, by decide, _, Or.inr ⟨_, q548⟩, Or.inl rfl⟩
theorem hcee_X8_among : zCee yX8_among RX8 1 := ⟨rfl, by decide +kernel, by decide +kernel, by decide +kernel⟩
theorem hcee_X8_number : zCee yX8_number RX8 2 := ⟨rfl, by decide +kernel, by decide +kernel, by decide +kernel⟩
abbrev MX8_river : zM := (RX8, cX8_river, 5, none, "river", [])
noncomputable def F_X8_river (o0 : Nat) (a0 : Nat) (h : zSt) : Option ((Nat × Nat) × ((Unit ⊕ (String × Nat)) × zSt)) := zka (hK h) a0 1 (fun n_1 => zg (decide (600 ≤ a0)) (zb1 ((jF h) a0 4) (fun o_4 => zka (hK h) o_4 2 (fun n_6 => zb1 (F_J2_size (hK h) (jF h) o_4 (hI h)) (fun x_9 => zka (hK h) o0 7 (fun n_10 => zc1 (F_X8_among o0 x_9 h) (fun c_15 => zn2 (fun s_13 h_14 => zpay c_15 (zsum s_13 (fun x_18 => zka (hK h_14) a0 1 (fun n_20 => zb1 ((jF h_14) a0 4) (fun o_22 => zka (hK h_14) o_22 2 (fun n_24 => zb1 (F_J2_size (hK h_14) (jF h_14) o_22 (hI h_14)) (fun x_27 => zka (hK h_14) o0 7 (fun n_28 => zc1 (F_X8_amongHere o0 x_27 h_14) (fun c_33 => zn2 (fun s_31 h_32 => zpay c_33 (zsum s_31 (fun x_36 => zlet (fun (w_38 : Int32) => zka (hK h_32) o0 7 (fun n_42 => zc1 (F_X8_check o0 w_38 4 h_32) (fun c_47 => zn2 (fun s_45 h_46 => zpay c_47 (zsum s_45 (fun x_50 => zka (hK h_46) o0 7 (fun n_52 => zc1 (F_X8_go o0 h_46) (fun c_56 h_55 => zpay c_56 (zka (hK h_55) o0 7 (fun n_57 => zc1 (F_X8_number o0 1 30 h_55) (fun c_62 => zn2 (fun s_60 h_61 => zpay c_62 (zsum s_60 (fun x_65 => zka (hK h_61) a0 1 (fun n_67 => zb1 ((jF h_61) a0 7) (fun o_69 => zka (hK h_61) o_69 64 (fun n_71 => zg (zin (((8 : Int32) * x_18) + x_36) n_71) (zg (decide (600 ≤ o_69)) (zlet (zsI h_61 (zu (hI h_61) o_69 ((((8 : Int32) * x_18) + x_36).toNatClampNeg) x_65)) (fun h_75 => zka (hK h_75) a0 1 (fun n_77 => zb1 ((jF h_75) a0 7) (fun o_79 => zka (hK h_75) o_79 64 (fun n_81 => zg (zin (((8 : Int32) * x_36) + x_18) n_81) (zg (decide (600 ≤ o_79)) (zlet (zsI h_75 (zu (hI h_75) o_79 ((((8 : Int32) * x_36) + x_18).toNatClampNeg) x_65)) (fun h_85 => zka (hK h_85) a0 1 (fun n_87 => zlet (zsI h_85 (zu (hI h_85) a0 3 (((hI h_85) a0 3) + 1))) (fun h_89 => some ((0, 0), (.inl (), h_89))))))))))))))))) (fun w_66 => some ((0, 0), (.inr w_66, h_61))))))))))) (fun w_51 => some ((0, 0), (.inr w_51, h_46)))))))) (fun k_39 => if x_18 = x_36 then k_39 0 else zka (hK h_32) a0 1 (fun n_91 => zb1 (F_X2_hasRiver (hK h_32) (jF h_32) a0 x_18 x_36 (hI h_32)) (fun x_94 => if ¬ x_94 = 0 then k_39 0 else k_39 1)))) (fun w_37 => some ((0, 0), (.inr w_37, h_32)))))))))))) (fun w_19 => some ((0, 0), (.inr w_19, h_14))))))))))))
set_option maxHeartbeats 1000000 in
theorem C_X8_river {l : Launch} {G : zGt} (htr : l.stackTraces = false) {o0 : Nat} {a0 : Nat} {h : zSt} {cc : Nat × Nat} {r : (Unit ⊕ (String × Nat)) × zSt} (hF : F_X8_river o0 a0 h = some (cc, r)) : zMet l G yX8_river (ws_ yX8_river cX8_river 5 none) 12 227 (cc.1 + 0) (cc.2 + 0) [.ref o0, .ref a0] (hK h) (jF h) (hI h) (hL h) (zQe (zov r.1) (hK r.2) (jF r.2) (hI r.2) (hL r.2)) := by
  refine zMet.of (by decide +kernel) htr (Nat.le_of_ble_eq_true rfl) ?_
  change zW l G MX8_river 12 227 (cc.1 + 0) (cc.2 + 0) 0 [(0, .ref o0), (1, .ref a0)] [] (hK h) (jF h) (hI h) (hL h) (zQe (zov r.1) (hK r.2) (jF r.2) (hI r.2) (hL r.2))
  unfold F_X8_river at hF
  refine z_aload_n (n := 1) dX8_river_0 rfl 0 rfl rfl ?_
  refine z_aload_n (n := 2) dX8_river_1 rfl 1 rfl rfl ?_
  obtain ⟨n_1, hk_2, hF⟩ := zka_some hF
  obtain ⟨hb_3, hF⟩ := zg_some hF
  obtain ⟨o_4, hr_5, hF⟩ := zb1_some hF
  refine z_getRS (n := 5) dX8_river_2 rfl zok1 fX8_128_1 rfl hk_2 (Or.inl (zbig hb_3)) hr_5 ?_
  obtain ⟨n_6, hk_7, hF⟩ := zka_some hF
  obtain ⟨x_9, c_8, hF⟩ := zb1_some hF
  refine z_cV (n := 8) (mc2 := (cc.1 + 0)) (ms2 := (cc.2 + 0)) (st := [.ref o0]) (C_J2_size htr c_8) dX8_river_5 rfl (lw_V q1089 q834 q835 q109 q836) hcee_J2_size rfl (by decide) hk_7 rfl rfl rfl (Nat.le_of_ble_eq_true rfl) (Nat.le_refl _) (Nat.le_refl _) ?_
  obtain ⟨n_10, hk_11, hF⟩ := zka_some hF
  obtain ⟨c_15, t_16, c_12, hF⟩ := zc1_some hF
  obtain ⟨s_13, h_14⟩ := t_16
  dsimp only [zn2] at hF
  obtain ⟨cc, hF, hcc⟩ := zpay_some hF
  refine z_payE hcc ?_
  rcases zsum_some hF with ⟨x_18, e_17, hF⟩ | ⟨w_19, e_17, hF⟩
  rotate_left
  · first | rw [e_17] at c_12 ⊢ | rw [e_17] at c_12
    obtain ⟨rfl, rfl⟩ := zpair hF
    refine z_cVx (n := 11) (mc2 := (((0, 0) : Nat × Nat).1 + 0)) (ms2 := (((0, 0) : Nat × Nat).2 + 0)) (st := []) (C_X8_among htr c_12) dX8_river_8 rfl (lw_V q1150 q1152 qs19 q132 q1153) hcee_X8_among rfl (by decide) hk_11 rfl rfl rfl (Nat.le_of_ble_eq_true rfl) (Nat.le_of_eq (Nat.add_comm _ _)) (Nat.le_of_eq (Nat.add_comm _ _)) ?_
    exact z_out rfl ⟨rfl, rfl, rfl, rfl, rfl⟩
  first | rw [e_17] at c_12 ⊢ | rw [e_17] at c_12
  refine z_cV (n := 11) (mc2 := (cc.1 + 0)) (ms2 := (cc.2 + 0)) (st := []) (C_X8_among htr c_12) dX8_river_8 rfl (lw_V q1150 q1152 qs19 q132 q1153) hcee_X8_among rfl (by decide) hk_11 rfl rfl rfl (Nat.le_of_ble_eq_true rfl) (Nat.le_of_eq (Nat.add_comm _ _)) (Nat.le_of_eq (Nat.add_comm _ _)) ?_
  refine z_istore_nE (n := 12) (lv' := [(2, .int x_18), (0, .ref o0), (1, .ref a0)]) dX8_river_11 rfl rfl rfl (by decide) rfl ?_
  refine z_aload_n (n := 13) dX8_river_12 rfl 1 rfl rfl ?_
  refine z_aload_n (n := 14) dX8_river_13 rfl 2 rfl rfl ?_
  obtain ⟨n_20, hk_21, hF⟩ := zka_some hF
  obtain ⟨o_22, hr_23, hF⟩ := zb1_some hF
  refine z_getRS (n := 17) dX8_river_14 rfl zok1 fX8_128_1 rfl hk_21 (Or.inl (zbig hb_3)) hr_23 ?_
  obtain ⟨n_24, hk_25, hF⟩ := zka_some hF
  obtain ⟨x_27, c_26, hF⟩ := zb1_some hF
  refine z_cV (n := 20) (mc2 := (cc.1 + 0)) (ms2 := (cc.2 + 0)) (st := [.ref o0]) (C_J2_size htr c_26) dX8_river_17 rfl (lw_V q1089 q834 q835 q109 q836) hcee_J2_size rfl (by decide) hk_25 rfl rfl rfl (Nat.le_of_ble_eq_true rfl) (Nat.le_refl _) (Nat.le_refl _) ?_
  obtain ⟨n_28, hk_29, hF⟩ := zka_some hF
  obtain ⟨c_33, t_34, c_30, hF⟩ := zc1_some hF
  obtain ⟨s_31, h_32⟩ := t_34
  dsimp only [zn2] at hF
  obtain ⟨cc, hF, hcc⟩ := zpay_some hF
  refine z_payE hcc ?_
  rcases zsum_some hF with ⟨x_36, e_35, hF⟩ | ⟨w_37, e_35, hF⟩
  rotate_left
  · first | rw [e_35] at c_30 ⊢ | rw [e_35] at c_30
    obtain ⟨rfl, rfl⟩ := zpair hF
    refine z_cVx (n := 23) (mc2 := (((0, 0) : Nat × Nat).1 + 0)) (ms2 := (((0, 0) : Nat × Nat).2 + 0)) (st := []) (C_X8_amongHere htr c_30) dX8_river_20 rfl (lw_V q1154 q1156 qs20 q132 q1157) hcee_X8_amongHere rfl (by decide) hk_29 rfl rfl rfl (Nat.le_of_ble_eq_true rfl) (Nat.le_of_eq (Nat.add_comm _ _)) (Nat.le_of_eq (Nat.add_comm _ _)) ?_
    exact z_out rfl ⟨rfl, rfl, rfl, rfl, rfl⟩
  first | rw [e_35] at c_30 ⊢ | rw [e_35] at c_30
  refine z_cV (n := 23) (mc2 := (cc.1 + 0)) (ms2 := (cc.2 + 0)) (st := []) (C_X8_amongHere htr c_30) dX8_river_20 rfl (lw_V q1154 q1156 qs20 q132 q1157) hcee_X8_amongHere rfl (by decide) hk_29 rfl rfl rfl (Nat.le_of_ble_eq_true rfl) (Nat.le_of_eq (Nat.add_comm _ _)) (Nat.le_of_eq (Nat.add_comm _ _)) ?_
  refine z_istore_nE (n := 24) (lv' := [(3, .int x_36), (2, .int x_18), (0, .ref o0), (1, .ref a0)]) dX8_river_23 rfl rfl rfl (by decide) rfl ?_
  refine z_aload_n (n := 25) dX8_river_24 rfl 2 rfl rfl ?_
  refine z_iload_n (n := 26) dX8_river_25 rfl 1 rfl rfl ?_
  refine z_iload_n (n := 27) dX8_river_26 rfl 0 rfl rfl ?_
  obtain ⟨k_39, e_40, hF⟩ := zlet_ob hF
  have H_41 : ∀ (w_38 : Int32) (cc : Nat × Nat), k_39 w_38 = some (cc, r) → zW l G MX8_river 12 227 (cc.1 + 0) (cc.2 + 0) 44 [(0, .ref o0), (1, .ref a0), (2, .int x_18), (3, .int x_36)] [.int w_38, .ref o0] (hK h_32) (jF h_32) (hI h_32) (hL h_32) (zQe (zov r.1) (hK r.2) (jF r.2) (hI r.2) (hL r.2)) := by
    intro w_38 cc hF
    subst e_40
    dsimp only at hF
    refine z_iconst (n := 45) (v := 4) dX8_river_44 rfl (by decide) ?_
    obtain ⟨n_42, hk_43, hF⟩ := zka_some hF
    obtain ⟨c_47, t_48, c_44, hF⟩ := zc1_some hF
    obtain ⟨s_45, h_46⟩ := t_48
    dsimp only [zn2] at hF
    obtain ⟨cc, hF, hcc⟩ := zpay_some hF
    refine z_payE hcc ?_
    rcases zsum_some hF with ⟨x_50, e_49, hF⟩ | ⟨w_51, e_49, hF⟩
    rotate_left
    · first | rw [e_49] at c_44 ⊢ | rw [e_49] at c_44
      obtain ⟨rfl, rfl⟩ := zpair hF
      refine z_cVx (n := 48) (mc2 := (((0, 0) : Nat × Nat).1 + 0)) (ms2 := (((0, 0) : Nat × Nat).2 + 0)) (st := []) (C_X8_check htr c_44) dX8_river_45 rfl (lw_V q1090 q1092 qs16 q132 q1093) hcee_X8_check rfl (by decide) hk_43 rfl rfl rfl (Nat.le_of_ble_eq_true rfl) (Nat.le_of_eq (Nat.add_comm _ _)) (Nat.le_of_eq (Nat.add_comm _ _)) ?_
      exact z_out rfl ⟨rfl, rfl, rfl, rfl, rfl⟩
    first | rw [e_49] at c_44 ⊢ | rw [e_49] at c_44
    refine z_cV (n := 48) (mc2 := (cc.1 + 0)) (ms2 := (cc.2 + 0)) (st := []) (C_X8_check htr c_44) dX8_river_45 rfl (lw_V q1090 q1092 qs16 q132 q1093) hcee_X8_check rfl (by decide) hk_43 rfl rfl rfl (Nat.le_of_ble_eq_true rfl) (Nat.le_of_eq (Nat.add_comm _ _)) (Nat.le_of_eq (Nat.add_comm _ _)) ?_
    refine z_aload_n (n := 49) dX8_river_48 rfl 0 rfl rfl ?_
    obtain ⟨n_52, hk_53, hF⟩ := zka_some hF
    obtain ⟨c_56, h_55, c_54, hF⟩ := zc1_some hF
    obtain ⟨cc, hF, hcc⟩ := zpay_some hF
    refine z_payE hcc ?_
    refine z_cV (n := 52) (mc2 := (cc.1 + 0)) (ms2 := (cc.2 + 0)) (st := []) (C_X8_go htr c_54) dX8_river_49 rfl (lw_V q975 q977 qs13 q132 q978) hcee_X8_go rfl (by decide) hk_53 rfl rfl rfl (Nat.le_of_ble_eq_true rfl) (Nat.le_of_eq (Nat.add_comm _ _)) (Nat.le_of_eq (Nat.add_comm _ _)) ?_
    refine z_aload_n (n := 53) dX8_river_52 rfl 0 rfl rfl ?_
    refine z_iconst (n := 54) (v := 1) dX8_river_53 rfl (by decide) ?_
    refine z_bipush (n := 56) (v := 30) dX8_river_54 rfl (by decide) ?_
    obtain ⟨n_57, hk_58, hF⟩ := zka_some hF
    obtain ⟨c_62, t_63, c_59, hF⟩ := zc1_some hF
    obtain ⟨s_60, h_61⟩ := t_63
    dsimp only [zn2] at hF
    obtain ⟨cc, hF, hcc⟩ := zpay_some hF
    refine z_payE hcc ?_
    rcases zsum_some hF with ⟨x_65, e_64, hF⟩ | ⟨w_66, e_64, hF⟩
    rotate_left
    · first | rw [e_64] at c_59 ⊢ | rw [e_64] at c_59
      obtain ⟨rfl, rfl⟩ := zpair hF
      refine z_cVx (n := 59) (mc2 := (((0, 0) : Nat × Nat).1 + 0)) (ms2 := (((0, 0) : Nat × Nat).2 + 0)) (st := []) (C_X8_number htr c_59) dX8_river_56 rfl (lw_V q1117 q1119 qs17 q132 q1120) hcee_X8_number rfl (by decide) hk_58 rfl rfl rfl (Nat.le_of_ble_eq_true rfl) (Nat.le_of_eq (Nat.add_comm _ _)) (Nat.le_of_eq (Nat.add_comm _ _)) ?_
      exact z_out rfl ⟨rfl, rfl, rfl, rfl, rfl⟩
    first | rw [e_64] at c_59 ⊢ | rw [e_64] at c_59
    refine z_cV (n := 59) (mc2 := (cc.1 + 0)) (ms2 := (cc.2 + 0)) (st := []) (C_X8_number htr c_59) dX8_river_56 rfl (lw_V q1117 q1119 qs17 q132 q1120) hcee_X8_number rfl (by decide) hk_58 rfl rfl rfl (Nat.le_of_ble_eq_true rfl) (Nat.le_of_eq (Nat.add_comm _ _)) (Nat.le_of_eq (Nat.add_comm _ _)) ?_
    refine z_istoreE (n := 61) (lv' := [(4, .int x_65), (0, .ref o0), (1, .ref a0), (2, .int x_18), (3, .int x_36)]) dX8_river_59 rfl rfl (by decide) rfl ?_
    refine z_aload_n (n := 62) dX8_river_61 rfl 2 rfl rfl ?_
    obtain ⟨n_67, hk_68, hF⟩ := zka_some hF
    obtain ⟨o_69, hr_70, hF⟩ := zb1_some hF
    refine z_getRS (n := 65) dX8_river_62 rfl zok1 fX8_214_1 rfl hk_68 (Or.inl (zbig hb_3)) hr_70 ?_
    refine z_bipush (n := 67) (v := 8) dX8_river_65 rfl (by decide) ?_
    refine z_iload_n (n := 68) dX8_river_67 rfl 3 rfl rfl ?_
    refine z_imul (n := 69) dX8_river_68 rfl ?_
    refine z_iload_n (n := 70) dX8_river_69 rfl 4 rfl rfl ?_
    refine z_iadd (n := 71) dX8_river_70 rfl ?_
    refine z_iload (n := 73) dX8_river_71 rfl 0 rfl ?_
    obtain ⟨n_71, hk_72, hF⟩ := zka_some hF
    obtain ⟨h_73, hF⟩ := zg_some hF
    obtain ⟨hb_74, hF⟩ := zg_some hF
    obtain ⟨h_75, e_76, hF⟩ := zlet_ob hF
    refine z_iastK (n := 74) ((((8 : Int32) * x_18) + x_36).toNatClampNeg) rfl dX8_river_73 rfl hk_72 (zbig hb_74) (zin_ok h_73) rfl ?_
    refine z_toI e_76 ?_
    refine z_aload_n (n := 75) dX8_river_74 rfl 2 rfl rfl ?_
    obtain ⟨n_77, hk_78, hF⟩ := zka_some hF
    obtain ⟨o_79, hr_80, hF⟩ := zb1_some hF
    refine z_getRS (n := 78) dX8_river_75 rfl zok1 fX8_214_1 rfl hk_78 (Or.inl (zbig hb_3)) hr_80 ?_
    refine z_bipush (n := 80) (v := 8) dX8_river_78 rfl (by decide) ?_
    refine z_iload_n (n := 81) dX8_river_80 rfl 4 rfl rfl ?_
    refine z_imul (n := 82) dX8_river_81 rfl ?_
    refine z_iload_n (n := 83) dX8_river_82 rfl 3 rfl rfl ?_
    refine z_iadd (n := 84) dX8_river_83 rfl ?_
    refine z_iload (n := 86) dX8_river_84 rfl 0 rfl ?_
    obtain ⟨n_81, hk_82, hF⟩ := zka_some hF
    obtain ⟨h_83, hF⟩ := zg_some hF
    obtain ⟨hb_84, hF⟩ := zg_some hF
    obtain ⟨h_85, e_86, hF⟩ := zlet_ob hF
    refine z_iastK (n := 87) ((((8 : Int32) * x_36) + x_18).toNatClampNeg) rfl dX8_river_86 rfl hk_82 (zbig hb_84) (zin_ok h_83) rfl ?_
    refine z_toI e_86 ?_
    refine z_aload_n (n := 88) dX8_river_87 rfl 2 rfl rfl ?_
    refine z_dup (n := 89) dX8_river_88 rfl rfl ?_
    obtain ⟨n_87, hk_88, hF⟩ := zka_some hF
    refine z_getI (n := 92) dX8_river_89 rfl zok1 fX8_150_1 rfl hk_88 (Or.inl (zbig hb_3)) ?_
    refine z_iconst (n := 93) (v := 1) dX8_river_92 rfl (by decide) ?_
    refine z_iadd (n := 94) dX8_river_93 rfl ?_
    obtain ⟨h_89, e_90, hF⟩ := zlet_ob hF
    refine z_putIE (n := 97) dX8_river_94 rfl zok1 fX8_150_1 (Or.inl ⟨_, rfl, rfl⟩) rfl ⟨rfl, rfl⟩ hk_88 (zbig hb_3) rfl ?_
    refine z_toI e_90 ?_
    obtain ⟨rfl, rfl⟩ := zpair hF
    exact z_vret dX8_river_97 rfl ⟨rfl, rfl, rfl, rfl, rfl⟩
  clear e_40
  refine z_icmp_eq (n := 30) (t := 43) dX8_river_27 rfl (by decide) (fun hc => ?_) (fun hc => ?_)
  · replace hF := (if_pos hc).symm.trans hF
    refine z_iconst (n := 44) (v := 0) dX8_river_43 rfl (by decide) ?_
    refine z_sub [2, 3, 1, 0] rfl ?_
    exact H_41 0 _ hF
  · replace hF := (if_neg hc).symm.trans hF
    refine z_aload_n (n := 31) dX8_river_30 rfl 3 rfl rfl ?_
    refine z_iload_n (n := 32) dX8_river_31 rfl 1 rfl rfl ?_
    refine z_iload_n (n := 33) dX8_river_32 rfl 0 rfl rfl ?_
    obtain ⟨n_91, hk_92, hF⟩ := zka_some hF
    obtain ⟨x_94, c_93, hF⟩ := zb1_some hF
    refine z_cV (n := 36) (mc2 := (cc.1 + 0)) (ms2 := (cc.2 + 0)) (st := [.ref o0]) (C_X2_hasRiver htr c_93) dX8_river_33 rfl (lw_V q1158 q1159 q1160 q106 q1161) hcee_X2_hasRiver rfl (by decide) hk_92 rfl rfl rfl (Nat.le_of_ble_eq_true rfl) (Nat.le_refl _) (Nat.le_refl _) ?_
    refine z_if_ne (n := 39) (t := 43) dX8_river_36 rfl (by decide) (fun hc => ?_) (fun hc => ?_)
    · replace hF := (if_pos hc).symm.trans hF
      refine z_iconst (n := 44) (v := 0) dX8_river_43 rfl (by decide) ?_
      refine z_sub [2, 3, 1, 0] rfl ?_
      exact H_41 0 _ hF
    · replace hF := (if_neg hc).symm.trans hF
      refine z_iconst (n := 40) (v := 1) dX8_river_39 rfl (by decide) ?_
      refine z_goto (t := 44) dX8_river_40 (by decide) ?_
      refine z_sub [2, 3, 1, 0] rfl ?_
      exact H_41 1 _ hF
theorem fX8_171_1 : zFld RX8 171 1 6 := ⟨_, rfl, by decide, _, Or.inr ⟨_, q546⟩, Or.inl rfl⟩
theorem hcee_J17_intValue : zCee yJ17_intValue RJ17 0 := ⟨rfl, by decide +kernel, by decide +kernel, by decide +kernel⟩
theorem hcee_J17_valueOf : zCee yJ17_valueOf RJ17 1 := ⟨rfl, by decide +kernel, by decide +kernel, by decide +kernel⟩
abbrev MX8_fort : zM := (RX8, cX8_fort, 4, none, "fort", [])
noncomputable def F_X8_fort_L14 (o0 : Nat) (a0 : Nat) (x_18 : Int32) (v3_20 : Int32) (h_21 : zSt) : Option ((Nat × Nat) × ((Int32 × zSt) ⊕ ((zSt) ⊕ ((Unit ⊕ (String × Nat)) × zSt)))) := zka (hK h_21) a0 1 (fun n_22 => zg (decide (600 ≤ a0)) (zb1 ((jF h_21) a0 6) (fun o_25 => zka (hK h_21) o_25 2 (fun n_27 => zb1 (F_J2_size (hK h_21) (jF h_21) o_25 (hI h_21)) (fun x_30 => if x_30 ≤ v3_20 then some ((0, 0), .inr (.inl h_21)) else zb1 ((jF h_21) a0 6) (fun o_31 => zka (hK h_21) o_31 2 (fun n_33 => zb1 (F_J2_get (hK h_21) (jF h_21) o_31 v3_20 (hI h_21)) (fun q_36 => zb1 q_36 (fun o_37 => zka (hK h_21) o_37 17 (fun n_39 => zb1 (F_J17_intValue (hK h_21) (jF h_21) o_37 (hI h_21)) (fun x_42 => zlet (fun (w_43 : Int32) => zka (hK h_21) o0 7 (fun n_47 => zc1 (F_X8_check o0 w_43 4 h_21) (fun c_52 => zn2 (fun s_50 h_51 => zpay c_52 (zsum s_50 (fun x_55 => zlet (v3_20 + 1) (fun v3_57 => some ((0, 0), .inl (v3_57, h_51)))) (fun w_56 => some ((0, 0), .inr (.inr (.inr w_56, h_51))))))))) (fun k_44 => if x_42 = x_18 then k_44 0 else k_44 1))))))))))))
noncomputable def F_X8_fort (o0 : Nat) (a0 : Nat) (h : zSt) : Option ((Nat × Nat) × ((Unit ⊕ (String × Nat)) × zSt)) := zka (hK h) a0 1 (fun n_1 => zg (decide (600 ≤ a0)) (zb1 ((jF h) a0 4) (fun o_4 => zka (hK h) o_4 2 (fun n_6 => zb1 (F_J2_size (hK h) (jF h) o_4 (hI h)) (fun x_9 => zka (hK h) o0 7 (fun n_10 => zc1 (F_X8_amongHere o0 x_9 h) (fun c_15 => zn2 (fun s_13 h_14 => zpay c_15 (zsum s_13 (fun x_18 => zcs (zloopC (fun s : Int32 × zSt => F_X8_fort_L14 o0 a0 x_18 s.1 s.2) (0, h_14)) (fun c_84 t_85 => zpay c_84 ((fun h_59 => zka (hK h_59) o0 7 (fun n_60 => zc1 (F_X8_go o0 h_59) (fun c_64 h_63 => zpay c_64 (zka (hK h_63) a0 1 (fun n_65 => zb1 ((jF h_63) a0 6) (fun o_67 => zc1 (F_J17_valueOf x_18 h_63) (fun c_72 => zn2 (fun q_70 h_71 => zpay c_72 (zb1 q_70 (fun o_74 => zka (hK h_71) o_67 2 (fun n_76 => zc1 (F_J2_add o_67 o_74 h_71) (fun c_81 => zn2 (fun x_79 h_80 => zpay c_81 (some ((0, 0), (.inl (), h_80)))))))))))))))) t_85)) (fun c_84 z_87 => zpay c_84 (some ((0, 0), z_87)))) (fun w_19 => some ((0, 0), (.inr w_19, h_14))))))))))))
set_option maxHeartbeats 1000000 in
theorem W_X8_fort_L14 {l : Launch} {G : zGt} (htr : l.stackTraces = false) {Q : zQt} {mE wE : Nat} {cc : Nat × Nat} {o0 : Nat} {a0 : Nat} {x_18 : Int32} {v3_20 : Int32} {h_21 : zSt} {r : (Int32 × zSt) ⊕ ((zSt) ⊕ ((Unit ⊕ (String × Nat)) × zSt))} (hF : F_X8_fort_L14 o0 a0 x_18 v3_20 h_21 = some (cc, r)) (kl : ∀ (z0 : Int32) (z1 : zSt), r = .inl (z0, z1) → zW l G MX8_fort 11 205 mE wE 14 [(0, .ref o0), (1, .ref a0), (2, .int x_18), (3, .int z0)] [] (hK z1) (jF z1) (hI z1) (hL z1) Q) (kx : ∀ (y0 : zSt), r = .inr (.inl y0) → zW l G MX8_fort 11 205 mE wE 59 [(0, .ref o0), (1, .ref a0), (2, .int x_18)] [] (hK y0) (jF y0) (hI y0) (hL y0) Q) (kq : ∀ z : (Unit ⊕ (String × Nat)) × zSt, r = .inr (.inr z) → Q (zov z.1) (hK z.2) (jF z.2) (hI z.2) (hL z.2)) : zW l G MX8_fort 11 205 (cc.1 + mE) (cc.2 + wE) 14 [(0, .ref o0), (1, .ref a0), (2, .int x_18), (3, .int v3_20)] [] (hK h_21) (jF h_21) (hI h_21) (hL h_21) Q := by
  unfold F_X8_fort_L14 at hF
  refine z_iload_n (n := 15) dX8_fort_14 rfl 3 rfl rfl ?_
  refine z_aload_n (n := 16) dX8_fort_15 rfl 1 rfl rfl ?_
  obtain ⟨n_22, hk_23, hF⟩ := zka_some hF
  obtain ⟨hb_24, hF⟩ := zg_some hF
  obtain ⟨o_25, hr_26, hF⟩ := zb1_some hF
  refine z_getRS (n := 19) dX8_fort_16 rfl zok1 fX8_171_1 rfl hk_23 (Or.inl (zbig hb_24)) hr_26 ?_
  obtain ⟨n_27, hk_28, hF⟩ := zka_some hF
  obtain ⟨x_30, c_29, hF⟩ := zb1_some hF
  refine z_cV (n := 22) (mc2 := (cc.1 + mE)) (ms2 := (cc.2 + wE)) (st := [.int v3_20]) (C_J2_size htr c_29) dX8_fort_19 rfl (lw_V q1089 q834 q835 q109 q836) hcee_J2_size rfl (by decide) hk_28 rfl rfl rfl (Nat.le_of_ble_eq_true rfl) (Nat.le_refl _) (Nat.le_refl _) ?_
  refine z_icmp_ge (n := 25) (t := 59) dX8_fort_22 rfl (by decide) (fun hc => ?_) (fun hc => ?_)
  · replace hF := (if_pos hc).symm.trans hF
    refine z_sub [0, 1, 2] rfl ?_
    obtain ⟨rfl, rfl⟩ := zpair hF
    refine z_eq (Nat.zero_add _) (Nat.zero_add _) ?_
    exact kx h_21 rfl
  · replace hF := (if_neg hc).symm.trans hF
    refine z_aload_n (n := 26) dX8_fort_25 rfl 0 rfl rfl ?_
    refine z_aload_n (n := 27) dX8_fort_26 rfl 1 rfl rfl ?_
    obtain ⟨o_31, hr_32, hF⟩ := zb1_some hF
    refine z_getRS (n := 30) dX8_fort_27 rfl zok1 fX8_171_1 rfl hk_23 (Or.inl (zbig hb_24)) hr_32 ?_
    refine z_iload_n (n := 31) dX8_fort_30 rfl 3 rfl rfl ?_
    obtain ⟨n_33, hk_34, hF⟩ := zka_some hF
    obtain ⟨q_36, c_35, hF⟩ := zb1_some hF
    refine z_cV (n := 34) (mc2 := (cc.1 + mE)) (ms2 := (cc.2 + wE)) (st := [.ref o0]) (C_J2_get htr c_35) dX8_fort_31 rfl (lw_V q1187 q813 q814 q109 q815) hcee_J2_get rfl (by decide) hk_34 rfl rfl rfl (Nat.le_of_ble_eq_true rfl) (Nat.le_refl _) (Nat.le_refl _) ?_
    obtain ⟨o_37, hr_38, hF⟩ := zb1_some hF
    rw [hr_38]
    obtain ⟨n_39, hk_40, hF⟩ := zka_some hF
    refine z_castS (n := 37) dX8_fort_34 rfl hk_40 rfl q1188 rfl ?_
    obtain ⟨x_42, c_41, hF⟩ := zb1_some hF
    refine z_cV (n := 40) (mc2 := (cc.1 + mE)) (ms2 := (cc.2 + wE)) (st := [.ref o0]) (C_J17_intValue htr c_41) dX8_fort_37 rfl (lw_V q1189 q1190 q1191 q125 q1192) hcee_J17_intValue rfl (by decide) hk_40 rfl rfl rfl (Nat.le_of_ble_eq_true rfl) (Nat.le_refl _) (Nat.le_refl _) ?_
    refine z_iload_n (n := 41) dX8_fort_40 rfl 2 rfl rfl ?_
    obtain ⟨k_44, e_45, hF⟩ := zlet_ob hF
    have H_46 : ∀ (w_43 : Int32) (cc : Nat × Nat), k_44 w_43 = some (cc, r) → zW l G MX8_fort 11 205 (cc.1 + mE) (cc.2 + wE) 49 [(0, .ref o0), (1, .ref a0), (2, .int x_18), (3, .int v3_20)] [.int w_43, .ref o0] (hK h_21) (jF h_21) (hI h_21) (hL h_21) Q := by
      intro w_43 cc hF
      subst e_45
      dsimp only at hF
      refine z_iconst (n := 50) (v := 4) dX8_fort_49 rfl (by decide) ?_
      obtain ⟨n_47, hk_48, hF⟩ := zka_some hF
      obtain ⟨c_52, t_53, c_49, hF⟩ := zc1_some hF
      obtain ⟨s_50, h_51⟩ := t_53
      dsimp only [zn2] at hF
      obtain ⟨cc, hF, hcc⟩ := zpay_some hF
      refine z_payE hcc ?_
      rcases zsum_some hF with ⟨x_55, e_54, hF⟩ | ⟨w_56, e_54, hF⟩
      rotate_left
      · first | rw [e_54] at c_49 ⊢ | rw [e_54] at c_49
        obtain ⟨rfl, rfl⟩ := zpair hF
        refine z_cVx (n := 53) (mc2 := (((0, 0) : Nat × Nat).1 + mE)) (ms2 := (((0, 0) : Nat × Nat).2 + wE)) (st := []) (C_X8_check htr c_49) dX8_fort_50 rfl (lw_V q1090 q1092 qs16 q132 q1093) hcee_X8_check rfl (by decide) hk_48 rfl rfl rfl (Nat.le_of_ble_eq_true rfl) (Nat.le_of_eq (Nat.add_comm _ _)) (Nat.le_of_eq (Nat.add_comm _ _)) ?_
        exact z_out rfl (kq _ rfl)
      first | rw [e_54] at c_49 ⊢ | rw [e_54] at c_49
      refine z_cV (n := 53) (mc2 := (cc.1 + mE)) (ms2 := (cc.2 + wE)) (st := []) (C_X8_check htr c_49) dX8_fort_50 rfl (lw_V q1090 q1092 qs16 q132 q1093) hcee_X8_check rfl (by decide) hk_48 rfl rfl rfl (Nat.le_of_ble_eq_true rfl) (Nat.le_of_eq (Nat.add_comm _ _)) (Nat.le_of_eq (Nat.add_comm _ _)) ?_
      obtain ⟨v3_57, e_58, hF⟩ := zlet_ob hF
      refine z_iincE (n := 56) (w := 1) (v := v3_57) (lv' := [(3, .int v3_57), (0, .ref o0), (1, .ref a0), (2, .int x_18)]) dX8_fort_53 rfl 3 rfl (by decide) e_58 (by decide) rfl ?_
      refine z_goto (t := 14) dX8_fort_56 (by decide) ?_
      refine z_sub [1, 2, 3, 0] rfl ?_
      obtain ⟨rfl, rfl⟩ := zpair hF
      refine z_eq (Nat.zero_add _) (Nat.zero_add _) ?_
      exact kl v3_57 h_51 rfl
    clear e_45
    refine z_icmp_eq (n := 44) (t := 48) dX8_fort_41 rfl (by decide) (fun hc => ?_) (fun hc => ?_)
    · replace hF := (if_pos hc).symm.trans hF
      refine z_iconst (n := 49) (v := 0) dX8_fort_48 rfl (by decide) ?_
      exact H_46 0 _ hF
    · replace hF := (if_neg hc).symm.trans hF
      refine z_iconst (n := 45) (v := 1) dX8_fort_44 rfl (by decide) ?_
      refine z_goto (t := 49) dX8_fort_45 (by decide) ?_
      exact H_46 1 _ hF
set_option maxHeartbeats 1000000 in
theorem C_X8_fort {l : Launch} {G : zGt} (htr : l.stackTraces = false) {o0 : Nat} {a0 : Nat} {h : zSt} {cc : Nat × Nat} {r : (Unit ⊕ (String × Nat)) × zSt} (hF : F_X8_fort o0 a0 h = some (cc, r)) : zMet l G yX8_fort (ws_ yX8_fort cX8_fort 4 none) 11 205 (cc.1 + 0) (cc.2 + 0) [.ref o0, .ref a0] (hK h) (jF h) (hI h) (hL h) (zQe (zov r.1) (hK r.2) (jF r.2) (hI r.2) (hL r.2)) := by
  refine zMet.of (by decide +kernel) htr (Nat.le_of_ble_eq_true rfl) ?_
  change zW l G MX8_fort 11 205 (cc.1 + 0) (cc.2 + 0) 0 [(0, .ref o0), (1, .ref a0)] [] (hK h) (jF h) (hI h) (hL h) (zQe (zov r.1) (hK r.2) (jF r.2) (hI r.2) (hL r.2))
  unfold F_X8_fort at hF
  refine z_aload_n (n := 1) dX8_fort_0 rfl 0 rfl rfl ?_
  refine z_aload_n (n := 2) dX8_fort_1 rfl 1 rfl rfl ?_
  obtain ⟨n_1, hk_2, hF⟩ := zka_some hF
  obtain ⟨hb_3, hF⟩ := zg_some hF
  obtain ⟨o_4, hr_5, hF⟩ := zb1_some hF
  refine z_getRS (n := 5) dX8_fort_2 rfl zok1 fX8_128_1 rfl hk_2 (Or.inl (zbig hb_3)) hr_5 ?_
  obtain ⟨n_6, hk_7, hF⟩ := zka_some hF
  obtain ⟨x_9, c_8, hF⟩ := zb1_some hF
  refine z_cV (n := 8) (mc2 := (cc.1 + 0)) (ms2 := (cc.2 + 0)) (st := [.ref o0]) (C_J2_size htr c_8) dX8_fort_5 rfl (lw_V q1089 q834 q835 q109 q836) hcee_J2_size rfl (by decide) hk_7 rfl rfl rfl (Nat.le_of_ble_eq_true rfl) (Nat.le_refl _) (Nat.le_refl _) ?_
  obtain ⟨n_10, hk_11, hF⟩ := zka_some hF
  obtain ⟨c_15, t_16, c_12, hF⟩ := zc1_some hF
  obtain ⟨s_13, h_14⟩ := t_16
  dsimp only [zn2] at hF
  obtain ⟨cc, hF, hcc⟩ := zpay_some hF
  refine z_payE hcc ?_
  rcases zsum_some hF with ⟨x_18, e_17, hF⟩ | ⟨w_19, e_17, hF⟩
  rotate_left
  · first | rw [e_17] at c_12 ⊢ | rw [e_17] at c_12
    obtain ⟨rfl, rfl⟩ := zpair hF
    refine z_cVx (n := 11) (mc2 := (((0, 0) : Nat × Nat).1 + 0)) (ms2 := (((0, 0) : Nat × Nat).2 + 0)) (st := []) (C_X8_amongHere htr c_12) dX8_fort_8 rfl (lw_V q1154 q1156 qs20 q132 q1157) hcee_X8_amongHere rfl (by decide) hk_11 rfl rfl rfl (Nat.le_of_ble_eq_true rfl) (Nat.le_of_eq (Nat.add_comm _ _)) (Nat.le_of_eq (Nat.add_comm _ _)) ?_
    exact z_out rfl ⟨rfl, rfl, rfl, rfl, rfl⟩
  first | rw [e_17] at c_12 ⊢ | rw [e_17] at c_12
  refine z_cV (n := 11) (mc2 := (cc.1 + 0)) (ms2 := (cc.2 + 0)) (st := []) (C_X8_amongHere htr c_12) dX8_fort_8 rfl (lw_V q1154 q1156 qs20 q132 q1157) hcee_X8_amongHere rfl (by decide) hk_11 rfl rfl rfl (Nat.le_of_ble_eq_true rfl) (Nat.le_of_eq (Nat.add_comm _ _)) (Nat.le_of_eq (Nat.add_comm _ _)) ?_
  refine z_istore_nE (n := 12) (lv' := [(2, .int x_18), (0, .ref o0), (1, .ref a0)]) dX8_fort_11 rfl rfl rfl (by decide) rfl ?_
  refine z_iconst (n := 13) (v := 0) dX8_fort_12 rfl (by decide) ?_
  refine z_istore_nE (n := 14) (lv' := [(3, .int 0), (2, .int x_18), (0, .ref o0), (1, .ref a0)]) dX8_fort_13 rfl rfl rfl (by decide) rfl ?_
  refine z_sub [2, 3, 1, 0] rfl ?_
  rcases zcs_some hF with ⟨c_84, t_85, e_83, hF⟩ | ⟨c_84, t_85, e_83, hF⟩
  · skip
    obtain ⟨cc, hF, hcc⟩ := zpay_some hF
    obtain ⟨h_59, rfl⟩ : ∃ z, z = t_85 := ⟨_, rfl⟩
    have H_86 : zW l G MX8_fort 11 205 (cc.1 + 0) (cc.2 + 0) 59 [(0, .ref o0), (1, .ref a0), (2, .int x_18)] [] (hK h_59) (jF h_59) (hI h_59) (hL h_59) (zQe (zov r.1) (hK r.2) (jF r.2) (hI r.2) (hL r.2)) := by
      refine z_aload_n (n := 60) dX8_fort_59 rfl 0 rfl rfl ?_
      obtain ⟨n_60, hk_61, hF⟩ := zka_some hF
      obtain ⟨c_64, h_63, c_62, hF⟩ := zc1_some hF
      obtain ⟨cc, hF, hcc⟩ := zpay_some hF
      refine z_payE hcc ?_
      refine z_cV (n := 63) (mc2 := (cc.1 + 0)) (ms2 := (cc.2 + 0)) (st := []) (C_X8_go htr c_62) dX8_fort_60 rfl (lw_V q975 q977 qs13 q132 q978) hcee_X8_go rfl (by decide) hk_61 rfl rfl rfl (Nat.le_of_ble_eq_true rfl) (Nat.le_of_eq (Nat.add_comm _ _)) (Nat.le_of_eq (Nat.add_comm _ _)) ?_
      refine z_aload_n (n := 64) dX8_fort_63 rfl 1 rfl rfl ?_
      obtain ⟨n_65, hk_66, hF⟩ := zka_some hF
      obtain ⟨o_67, hr_68, hF⟩ := zb1_some hF
      refine z_getRS (n := 67) dX8_fort_64 rfl zok1 fX8_171_1 rfl hk_66 (Or.inl (zbig hb_3)) hr_68 ?_
      refine z_iload_n (n := 68) dX8_fort_67 rfl 2 rfl rfl ?_
      obtain ⟨c_72, t_73, c_69, hF⟩ := zc1_some hF
      obtain ⟨q_70, h_71⟩ := t_73
      dsimp only [zn2] at hF
      obtain ⟨cc, hF, hcc⟩ := zpay_some hF
      refine z_payE hcc ?_
      refine z_cS (n := 71) (mc2 := (cc.1 + 0)) (ms2 := (cc.2 + 0)) (st := [.ref o_67]) (C_J17_valueOf htr c_69) dX8_fort_68 rfl (lw_S q1193 q1194 q125 q1195) hcee_J17_valueOf rfl (by decide) rfl (Nat.le_of_ble_eq_true rfl) (Nat.le_of_eq (Nat.add_comm _ _)) (Nat.le_of_eq (Nat.add_comm _ _)) ?_
      obtain ⟨o_74, hr_75, hF⟩ := zb1_some hF
      rw [hr_75]
      obtain ⟨n_76, hk_77, hF⟩ := zka_some hF
      obtain ⟨c_81, t_82, c_78, hF⟩ := zc1_some hF
      obtain ⟨x_79, h_80⟩ := t_82
      dsimp only [zn2] at hF
      obtain ⟨cc, hF, hcc⟩ := zpay_some hF
      refine z_payE hcc ?_
      refine z_cV (n := 74) (mc2 := (cc.1 + 0)) (ms2 := (cc.2 + 0)) (st := []) (C_J2_add htr c_78) dX8_fort_71 rfl (lw_V q1144 q645 q646 q109 q647) hcee_J2_add rfl (by decide) hk_77 rfl rfl rfl (Nat.le_of_ble_eq_true rfl) (Nat.le_of_eq (Nat.add_comm _ _)) (Nat.le_of_eq (Nat.add_comm _ _)) ?_
      refine z_pop (n := 75) dX8_fort_74 rfl rfl ?_
      obtain ⟨rfl, rfl⟩ := zpair hF
      exact z_vret dX8_fort_75 rfl ⟨rfl, rfl, rfl, rfl, rfl⟩
    refine z_payE hcc ?_
    refine zloopC_ind (P := fun (s : Int32 × zSt) m w => zW l G MX8_fort 11 205 (m + (cc.1 + 0)) (w + (cc.2 + 0)) 14 [(0, .ref o0), (1, .ref a0), (2, .int x_18), (3, .int s.1)] [] (hK s.2) (jF s.2) (hI s.2) (hL s.2) (zQe (zov r.1) (hK r.2) (jF r.2) (hI r.2) (hL r.2))) (fun s c r E9 W9 hb kl kr => ?_) e_83
    refine z_eq (Nat.add_assoc _ _ _) (Nat.add_assoc _ _ _) ?_
    exact W_X8_fort_L14 (o0 := o0) (a0 := a0) htr hb (fun z0 z1 e => kl _ e) (fun y0 e => by obtain ⟨h1, rfl, rfl⟩ := kr _ e; cases h1; exact z_eq (Nat.zero_add _) (Nat.zero_add _) H_86) (fun z e => by have h1 := (kr _ e).1; cases h1)
  · skip
    obtain ⟨cc, hF, hcc⟩ := zpay_some hF
    obtain ⟨h9, hq⟩ := zpair hF
    subst h9
    refine z_payE hcc ?_
    refine zloopC_ind (P := fun (s : Int32 × zSt) m w => zW l G MX8_fort 11 205 (m + (((0, 0) : Nat × Nat).1 + 0)) (w + (((0, 0) : Nat × Nat).2 + 0)) 14 [(0, .ref o0), (1, .ref a0), (2, .int x_18), (3, .int s.1)] [] (hK s.2) (jF s.2) (hI s.2) (hL s.2) (zQe (zov r.1) (hK r.2) (jF r.2) (hI r.2) (hL r.2))) (fun s c r E9 W9 hb kl kr => ?_) e_83
    refine z_eq (Nat.add_assoc _ _ _) (Nat.add_assoc _ _ _) ?_
    exact W_X8_fort_L14 (o0 := o0) (a0 := a0) htr hb (fun z0 z1 e => kl _ e) (fun y0 e => by have h1 := (kr _ e).1; cases h1) (fun z e => by have h1 := (kr _ e).1; cases h1; subst hq; exact ⟨rfl, rfl, rfl, rfl, rfl⟩)
theorem zlit_X8_290 : ((RX8, 290, "bows", 72) : String × Nat × String × Nat) ∈ zLit := List.mem_of_getElem? (i := 21) rfl
theorem zlit_X8_298 : ((RX8, 298, "sables", 74) : String × Nat × String × Nat) ∈ zLit := List.mem_of_getElem? (i := 22) rfl
theorem zlit_X8_303 : ((RX8, 303, "owes", 76) : String × Nat × String × Nat) ∈ zLit := List.mem_of_getElem? (i := 23) rfl
theorem zlit_X8_308 : ((RX8, 308, "due", 78) : String × Nat × String × Nat) ∈ zLit := List.mem_of_getElem? (i := 24) rfl
theorem zlit_X8_313 : ((RX8, 313, "year", 80) : String × Nat × String × Nat) ∈ zLit := List.mem_of_getElem? (i := 25) rfl
theorem zlit_X8_318 : ((RX8, 318, "store", 82) : String × Nat × String × Nat) ∈ zLit := List.mem_of_getElem? (i := 26) rfl
theorem zlit_X8_323 : ((RX8, 323, "others", 84) : String × Nat × String × Nat) ∈ zLit := List.mem_of_getElem? (i := 27) rfl
abbrev MX8_valueOf : zM := (RX8, cX8_valueOf, 1, (some (.object "SableCrown$Value")), "valueOf", [])
noncomputable def F_X8_valueOf (K : zKd) (F : zFd) (a0 : Nat) (I : zId) : Option (Option Nat) := zka K 72 15 (fun n_2 => zka K a0 15 (fun n_3 => zb1 (F_J9_equals K F a0 72 I) (fun x_6 => if x_6 = 0 then zka K 74 15 (fun n_8 => zb1 (F_J9_equals K F a0 74 I) (fun x_10 => if x_10 = 0 then zka K 76 15 (fun n_12 => zb1 (F_J9_equals K F a0 76 I) (fun x_14 => if x_14 = 0 then zka K 78 15 (fun n_16 => zb1 (F_J9_equals K F a0 78 I) (fun x_18 => if x_18 = 0 then zka K 80 15 (fun n_20 => zb1 (F_J9_equals K F a0 80 I) (fun x_22 => if x_22 = 0 then zka K 82 15 (fun n_24 => zb1 (F_J9_equals K F a0 82 I) (fun x_26 => if x_26 = 0 then zka K 84 15 (fun n_28 => zb1 (F_J9_equals K F a0 84 I) (fun x_30 => if x_30 = 0 then some none else zg (K 16).isSome (some (some 16)))) else zg (K 15).isSome (some (some 15)))) else zg (K 14).isSome (some (some 14)))) else zg (K 13).isSome (some (some 13)))) else zg (K 12).isSome (some (some 12)))) else zg (K 11).isSome (some (some 11)))) else zg (K 10).isSome (some (some 10)))))
set_option maxHeartbeats 1000000 in
theorem C_X8_valueOf {l : Launch} {G : zGt} (htr : l.stackTraces = false) {K : zKd} {F : zFd} {L : zLd} {a0 : Nat} {I : zId} {r : Option Nat} (hF : F_X8_valueOf K F a0 I = some r) : zMet l G yX8_valueOf (ws_ yX8_valueOf cX8_valueOf 1 (some (.object "SableCrown$Value"))) 2 44 0 0 [.ref a0] K F I L (zQe (.inl (some (zrf r))) K F I L) := by
  refine zMet.of (by decide +kernel) htr (Nat.le_of_ble_eq_true rfl) ?_
  change zW l G MX8_valueOf 2 44 0 0 0 [(0, .ref a0)] [] K F I L (zQe (.inl (some (zrf r))) K F I L)
  unfold F_X8_valueOf at hF
  refine z_aload_n (n := 1) dX8_valueOf_0 rfl 0 rfl rfl ?_
  obtain ⟨n_2, hk_1, hF⟩ := zka_some hF
  refine z_ldcwS (n := 4) (j := 72) dX8_valueOf_1 rfl zlit_X8_290 (by decide) (znn hk_1) ?_
  obtain ⟨n_3, hk_4, hF⟩ := zka_some hF
  obtain ⟨x_6, c_5, hF⟩ := zb1_some hF
  refine z_cV (n := 7) (st := []) (C_J9_equals htr c_5) dX8_valueOf_4 rfl (lw_V q1082 q1083 q1084 q116 q1085) hcee_J9_equals rfl (by decide) hk_4 rfl rfl rfl (Nat.le_of_ble_eq_true rfl) (Nat.le_refl _) (Nat.le_refl _) ?_
  refine z_if_eq (n := 10) (t := 14) dX8_valueOf_7 rfl (by decide) (fun hc => ?_) (fun hc => ?_)
  · replace hF := (if_pos hc).symm.trans hF
    refine z_aload_n (n := 15) dX8_valueOf_14 rfl 0 rfl rfl ?_
    obtain ⟨n_8, hk_7, hF⟩ := zka_some hF
    refine z_ldcwS (n := 18) (j := 74) dX8_valueOf_15 rfl zlit_X8_298 (by decide) (znn hk_7) ?_
    obtain ⟨x_10, c_9, hF⟩ := zb1_some hF
    refine z_cV (n := 21) (st := []) (C_J9_equals htr c_9) dX8_valueOf_18 rfl (lw_V q1082 q1083 q1084 q116 q1085) hcee_J9_equals rfl (by decide) hk_4 rfl rfl rfl (Nat.le_of_ble_eq_true rfl) (Nat.le_refl _) (Nat.le_refl _) ?_
    refine z_if_eq (n := 24) (t := 28) dX8_valueOf_21 rfl (by decide) (fun hc => ?_) (fun hc => ?_)
    · replace hF := (if_pos hc).symm.trans hF
      refine z_aload_n (n := 29) dX8_valueOf_28 rfl 0 rfl rfl ?_
      obtain ⟨n_12, hk_11, hF⟩ := zka_some hF
      refine z_ldcwS (n := 32) (j := 76) dX8_valueOf_29 rfl zlit_X8_303 (by decide) (znn hk_11) ?_
      obtain ⟨x_14, c_13, hF⟩ := zb1_some hF
      refine z_cV (n := 35) (st := []) (C_J9_equals htr c_13) dX8_valueOf_32 rfl (lw_V q1082 q1083 q1084 q116 q1085) hcee_J9_equals rfl (by decide) hk_4 rfl rfl rfl (Nat.le_of_ble_eq_true rfl) (Nat.le_refl _) (Nat.le_refl _) ?_
      refine z_if_eq (n := 38) (t := 42) dX8_valueOf_35 rfl (by decide) (fun hc => ?_) (fun hc => ?_)
      · replace hF := (if_pos hc).symm.trans hF
        refine z_aload_n (n := 43) dX8_valueOf_42 rfl 0 rfl rfl ?_
        obtain ⟨n_16, hk_15, hF⟩ := zka_some hF
        refine z_ldcwS (n := 46) (j := 78) dX8_valueOf_43 rfl zlit_X8_308 (by decide) (znn hk_15) ?_
        obtain ⟨x_18, c_17, hF⟩ := zb1_some hF
        refine z_cV (n := 49) (st := []) (C_J9_equals htr c_17) dX8_valueOf_46 rfl (lw_V q1082 q1083 q1084 q116 q1085) hcee_J9_equals rfl (by decide) hk_4 rfl rfl rfl (Nat.le_of_ble_eq_true rfl) (Nat.le_refl _) (Nat.le_refl _) ?_
        refine z_if_eq (n := 52) (t := 56) dX8_valueOf_49 rfl (by decide) (fun hc => ?_) (fun hc => ?_)
        · replace hF := (if_pos hc).symm.trans hF
          refine z_aload_n (n := 57) dX8_valueOf_56 rfl 0 rfl rfl ?_
          obtain ⟨n_20, hk_19, hF⟩ := zka_some hF
          refine z_ldcwS (n := 60) (j := 80) dX8_valueOf_57 rfl zlit_X8_313 (by decide) (znn hk_19) ?_
          obtain ⟨x_22, c_21, hF⟩ := zb1_some hF
          refine z_cV (n := 63) (st := []) (C_J9_equals htr c_21) dX8_valueOf_60 rfl (lw_V q1082 q1083 q1084 q116 q1085) hcee_J9_equals rfl (by decide) hk_4 rfl rfl rfl (Nat.le_of_ble_eq_true rfl) (Nat.le_refl _) (Nat.le_refl _) ?_
          refine z_if_eq (n := 66) (t := 70) dX8_valueOf_63 rfl (by decide) (fun hc => ?_) (fun hc => ?_)
          · replace hF := (if_pos hc).symm.trans hF
            refine z_aload_n (n := 71) dX8_valueOf_70 rfl 0 rfl rfl ?_
            obtain ⟨n_24, hk_23, hF⟩ := zka_some hF
            refine z_ldcwS (n := 74) (j := 82) dX8_valueOf_71 rfl zlit_X8_318 (by decide) (znn hk_23) ?_
            obtain ⟨x_26, c_25, hF⟩ := zb1_some hF
            refine z_cV (n := 77) (st := []) (C_J9_equals htr c_25) dX8_valueOf_74 rfl (lw_V q1082 q1083 q1084 q116 q1085) hcee_J9_equals rfl (by decide) hk_4 rfl rfl rfl (Nat.le_of_ble_eq_true rfl) (Nat.le_refl _) (Nat.le_refl _) ?_
            refine z_if_eq (n := 80) (t := 84) dX8_valueOf_77 rfl (by decide) (fun hc => ?_) (fun hc => ?_)
            · replace hF := (if_pos hc).symm.trans hF
              refine z_aload_n (n := 85) dX8_valueOf_84 rfl 0 rfl rfl ?_
              obtain ⟨n_28, hk_27, hF⟩ := zka_some hF
              refine z_ldcwS (n := 88) (j := 84) dX8_valueOf_85 rfl zlit_X8_323 (by decide) (znn hk_27) ?_
              obtain ⟨x_30, c_29, hF⟩ := zb1_some hF
              refine z_cV (n := 91) (st := []) (C_J9_equals htr c_29) dX8_valueOf_88 rfl (lw_V q1082 q1083 q1084 q116 q1085) hcee_J9_equals rfl (by decide) hk_4 rfl rfl rfl (Nat.le_of_ble_eq_true rfl) (Nat.le_refl _) (Nat.le_refl _) ?_
              refine z_if_eq (n := 94) (t := 100) dX8_valueOf_91 rfl (by decide) (fun hc => ?_) (fun hc => ?_)
              · replace hF := (if_pos hc).symm.trans hF
                refine z_null (n := 101) dX8_valueOf_100 rfl ?_
                have hF := Option.some.inj hF; subst hF
                exact z_aret (r := none) dX8_valueOf_101 rfl (Or.inl ⟨_, rfl⟩) ⟨rfl, rfl, rfl, rfl, rfl⟩
              · replace hF := (if_neg hc).symm.trans hF
                obtain ⟨hk_31, hF⟩ := zg_some hF
                refine z_gets (n := 97) (v := .ref 16) dX8_valueOf_94 rfl zst_Value_OTHERS q1281 (fun j h => by cases h; exact ⟨by decide, zsome hk_31⟩) ?_
                refine z_goto (t := 101) dX8_valueOf_97 (by decide) ?_
                have hF := Option.some.inj hF; subst hF
                exact z_aret (r := (some 16)) dX8_valueOf_101 rfl (Or.inl ⟨_, rfl⟩) ⟨rfl, rfl, rfl, rfl, rfl⟩
            · replace hF := (if_neg hc).symm.trans hF
              obtain ⟨hk_32, hF⟩ := zg_some hF
              refine z_gets (n := 83) (v := .ref 15) dX8_valueOf_80 rfl zst_Value_STORE q1279 (fun j h => by cases h; exact ⟨by decide, zsome hk_32⟩) ?_
              have hF := Option.some.inj hF; subst hF
              exact z_aret (r := (some 15)) dX8_valueOf_83 rfl (Or.inl ⟨_, rfl⟩) ⟨rfl, rfl, rfl, rfl, rfl⟩
          · replace hF := (if_neg hc).symm.trans hF
            obtain ⟨hk_33, hF⟩ := zg_some hF
            refine z_gets (n := 69) (v := .ref 14) dX8_valueOf_66 rfl zst_Value_YEAR q1277 (fun j h => by cases h; exact ⟨by decide, zsome hk_33⟩) ?_
            have hF := Option.some.inj hF; subst hF
            exact z_aret (r := (some 14)) dX8_valueOf_69 rfl (Or.inl ⟨_, rfl⟩) ⟨rfl, rfl, rfl, rfl, rfl⟩
        · replace hF := (if_neg hc).symm.trans hF
          obtain ⟨hk_34, hF⟩ := zg_some hF
          refine z_gets (n := 55) (v := .ref 13) dX8_valueOf_52 rfl zst_Value_DUE q1275 (fun j h => by cases h; exact ⟨by decide, zsome hk_34⟩) ?_
          have hF := Option.some.inj hF; subst hF
          exact z_aret (r := (some 13)) dX8_valueOf_55 rfl (Or.inl ⟨_, rfl⟩) ⟨rfl, rfl, rfl, rfl, rfl⟩
      · replace hF := (if_neg hc).symm.trans hF
        obtain ⟨hk_35, hF⟩ := zg_some hF
        refine z_gets (n := 41) (v := .ref 12) dX8_valueOf_38 rfl zst_Value_OWES q1273 (fun j h => by cases h; exact ⟨by decide, zsome hk_35⟩) ?_
        have hF := Option.some.inj hF; subst hF
        exact z_aret (r := (some 12)) dX8_valueOf_41 rfl (Or.inl ⟨_, rfl⟩) ⟨rfl, rfl, rfl, rfl, rfl⟩
    · replace hF := (if_neg hc).symm.trans hF
      obtain ⟨hk_36, hF⟩ := zg_some hF
      refine z_gets (n := 27) (v := .ref 11) dX8_valueOf_24 rfl zst_Value_SABLES q1271 (fun j h => by cases h; exact ⟨by decide, zsome hk_36⟩) ?_
      have hF := Option.some.inj hF; subst hF
      exact z_aret (r := (some 11)) dX8_valueOf_27 rfl (Or.inl ⟨_, rfl⟩) ⟨rfl, rfl, rfl, rfl, rfl⟩
  · replace hF := (if_neg hc).symm.trans hF
    obtain ⟨hk_37, hF⟩ := zg_some hF
    refine z_gets (n := 13) (v := .ref 10) dX8_valueOf_10 rfl zst_Value_BOWS q1269 (fun j h => by cases h; exact ⟨by decide, zsome hk_37⟩) ?_
    have hF := Option.some.inj hF; subst hF
    exact z_aret (r := (some 10)) dX8_valueOf_13 rfl (Or.inl ⟨_, rfl⟩) ⟨rfl, rfl, rfl, rfl, rfl⟩
theorem hcee_X13_init : zCee yX13_init RX13 1 := ⟨rfl, by decide +kernel, by decide +kernel, by decide +kernel⟩
theorem hcee_X14_init : zCee yX14_init RX14 1 := ⟨rfl, by decide +kernel, by decide +kernel, by decide +kernel⟩
theorem hcee_X8_expr : zCee yX8_expr RX8 1 := ⟨rfl, by decide +kernel, by decide +kernel, by decide +kernel⟩
theorem hcee_X8_need : zCee yX8_need RX8 1 := ⟨rfl, by decide +kernel, by decide +kernel, by decide +kernel⟩
theorem hcee_X8_valueOf : zCee yX8_valueOf RX8 1 := ⟨rfl, by decide +kernel, by decide +kernel, by decide +kernel⟩
theorem zlit_X8_230 : ((RX8, 230, "(", 50) : String × Nat × String × Nat) ∈ zLit := List.mem_of_getElem? (i := 10) rfl
theorem zlit_X8_280 : ((RX8, 280, ")", 70) : String × Nat × String × Nat) ∈ zLit := List.mem_of_getElem? (i := 20) rfl
abbrev MX8_part : zM := (RX8, cX8_part, 3, (some (.object "SableCrown$Expr")), "part", [])
noncomputable def F_X8_part (ex_ : Nat → Int32 → zSt → Option ((Nat × Nat) × ((Option Nat ⊕ (String × Nat)) × zSt))) (o0 : Nat) (a0 : Int32) (h : zSt) : Option ((Nat × Nat) × ((Option Nat ⊕ (String × Nat)) × zSt)) := zka (hK h) o0 7 (fun n_1 => zg (decide (600 ≤ o0)) (zb1 ((jF h) o0 6) (fun o_4 => zg ((hK h) 1).isSome (zg (zcmpok (some o_4) (some 1)) (if ¬ (some o_4) = (some 1) then zka (hK h) 50 15 (fun n_9 => zb1 (F_X8_is (hK h) (jF h) o0 50 (hI h)) (fun x_11 => if x_11 = 0 then zb1 ((jF h) o0 6) (fun o_12 => zg ((hK h) 0).isSome (zlet (fun (w_16 : Int32) => zc1 (F_X8_check o0 w_16 1 h) (fun c_23 => zn2 (fun s_21 h_22 => zpay c_23 (zsum s_21 (fun x_26 => zka (hK h_22) o0 7 (fun n_28 => zb1 ((jF h_22) o0 7) (fun o_30 => zb1 (F_X8_valueOf (hK h_22) (jF h_22) o_30 (hI h_22)) (fun q_33 => zlet (fun (w_34 : Int32) => zc1 (F_X8_check o0 w_34 3 h_22) (fun c_41 => zn2 (fun s_39 h_40 => zpay c_41 (zsum s_39 (fun x_44 => zka (hK h_40) o0 7 (fun n_46 => zc1 (F_X8_go o0 h_40) (fun c_50 h_49 => zpay c_50 (zpay (1, 1) (zg (zfree h_49) (zlet (hN h_49) (fun o_54 => zlet (znA h_49 12 0) (fun h_52 => zb1 q_33 (fun o_56 => zc1 (F_X14_init o_54 o_56 h_52) (fun c_60 h_59 => zpay c_60 (some ((0, 0), (.inl (some o_54), h_59))))))))))))) (fun w_45 => some ((0, 0), (.inr w_45, h_40))))))) (fun k_35 => if q_33 = none then k_35 0 else k_35 1))))) (fun w_27 => some ((0, 0), (.inr w_27, h_22))))))) (fun k_17 => zg (zcmpok (some o_12) (some 0)) (if ¬ (some o_12) = (some 0) then k_17 0 else k_17 1)))) else zc1 (F_X8_go o0 h) (fun c_63 h_62 => zpay c_63 (zka (hK h_62) o0 7 (fun n_64 => zc1 (ex_ o0 (a0 + 1) h_62) (fun c_69 => zn2 (fun s_67 h_68 => zpay c_69 (zsum s_67 (fun q_72 => zb1 q_72 (fun o_74 => zka (hK h_68) 70 15 (fun n_77 => zka (hK h_68) o0 7 (fun n_78 => zc1 (F_X8_need o0 70 h_68) (fun c_83 => zn2 (fun s_81 h_82 => zpay c_83 (zsum s_81 (fun x_86 => some ((0, 0), (.inl (some o_74), h_82))) (fun w_87 => some ((0, 0), (.inr w_87, h_82)))))))))) (fun w_73 => some ((0, 0), (.inr w_73, h_68))))))))))) else zpay (1, 1) (zg (zfree h) (zlet (hN h) (fun o_91 => zlet (znA h 11 0) (fun h_89 => zka (hK h_89) o0 7 (fun n_93 => zc1 (F_X8_number o0 0 9999 h_89) (fun c_98 => zn2 (fun s_96 h_97 => zpay c_98 (zsum s_96 (fun x_101 => zc1 (F_X13_init o_91 x_101 h_97) (fun c_105 h_104 => zpay c_105 (some ((0, 0), (.inl (some o_91), h_104))))) (fun w_102 => some ((0, 0), (.inr w_102, h_97))))))))))))))))
set_option maxHeartbeats 1000000 in
theorem C_X8_part {l : Launch} {G : zGt} (htr : l.stackTraces = false) {ex_ : Nat → Int32 → zSt → Option ((Nat × Nat) × ((Option Nat ⊕ (String × Nat)) × zSt))} {o0 : Nat} {a0 : Int32} {fb lb : Nat} (hex : ∀ (o : Nat) (a : Int32) (h : zSt) (cc : Nat × Nat) (r : (Option Nat ⊕ (String × Nat)) × zSt), ex_ o a h = some (cc, r) → zMet l G yX8_expr (ws_ yX8_expr cX8_expr 3 (some (.object "SableCrown$Expr"))) fb lb cc.1 cc.2 [.ref o, .int a] (hK h) (jF h) (hI h) (hL h) (zQe (zor r.1) (hK r.2) (jF r.2) (hI r.2) (hL r.2))) {h : zSt} {cc : Nat × Nat} {r : (Option Nat ⊕ (String × Nat)) × zSt} (hF : F_X8_part ex_ o0 a0 h = some (cc, r)) : zMet l G yX8_part (ws_ yX8_part cX8_part 3 (some (.object "SableCrown$Expr"))) (fb + 11) (lb + 216) (cc.1 + 0) (cc.2 + 0) [.ref o0, .int a0] (hK h) (jF h) (hI h) (hL h) (zQe (zor r.1) (hK r.2) (jF r.2) (hI r.2) (hL r.2)) := by
  refine zMet.of (by decide +kernel) htr (by first | exact Nat.le_of_ble_eq_true rfl | omega) ?_
  change zW l G MX8_part (fb + 11) (lb + 216) (cc.1 + 0) (cc.2 + 0) 0 [(0, .ref o0), (1, .int a0)] [] (hK h) (jF h) (hI h) (hL h) (zQe (zor r.1) (hK r.2) (jF r.2) (hI r.2) (hL r.2))
  unfold F_X8_part at hF
  refine z_aload_n (n := 1) dX8_part_0 rfl 0 rfl rfl ?_
  obtain ⟨n_1, hk_2, hF⟩ := zka_some hF
  obtain ⟨hb_3, hF⟩ := zg_some hF
  obtain ⟨o_4, hr_5, hF⟩ := zb1_some hF
  refine z_getRS (n := 4) dX8_part_1 rfl zok7 fX8_52_7 rfl hk_2 (Or.inl (zbig hb_3)) hr_5 ?_
  obtain ⟨hk_6, hF⟩ := zg_some hF
  refine z_gets (n := 7) (v := .ref 1) dX8_part_4 rfl zst_Sort_NUMBER q1019 (fun j h => by cases h; exact ⟨by decide, zsome hk_6⟩) ?_
  obtain ⟨hz_7, hF⟩ := zg_some hF
  refine z_acmp_ne (r1 := (some o_4)) (r2 := (some 1)) (n := 10) (t := 26) dX8_part_7 rfl (by first | decide | omega) (zcmpok_ok hz_7) (fun hc => ?_) (fun hc => ?_)
  · replace hF := (if_pos hc).symm.trans hF
    refine z_aload_n (n := 27) dX8_part_26 rfl 0 rfl rfl ?_
    obtain ⟨n_9, hk_8, hF⟩ := zka_some hF
    refine z_ldcS (n := 29) (j := 50) dX8_part_27 rfl zlit_X8_230 (by first | decide | omega) (znn hk_8) ?_
    obtain ⟨x_11, c_10, hF⟩ := zb1_some hF
    refine z_cV (n := 32) (mc2 := (cc.1 + 0)) (ms2 := (cc.2 + 0)) (st := []) (C_X8_is htr c_10) dX8_part_29 rfl (lw_V q1078 q1080 qs15 q132 q1081) hcee_X8_is rfl (by first | decide | omega) hk_2 rfl rfl rfl (by first | exact Nat.le_of_ble_eq_true rfl | omega) (Nat.le_refl _) (Nat.le_refl _) ?_
    refine z_if_eq (n := 35) (t := 56) dX8_part_32 rfl (by first | decide | omega) (fun hc => ?_) (fun hc => ?_)
    · replace hF := (if_pos hc).symm.trans hF
      refine z_aload_n (n := 57) dX8_part_56 rfl 0 rfl rfl ?_
      refine z_aload_n (n := 58) dX8_part_57 rfl 0 rfl rfl ?_
      obtain ⟨o_12, hr_13, hF⟩ := zb1_some hF
      refine z_getRS (n := 61) dX8_part_58 rfl zok7 fX8_52_7 rfl hk_2 (Or.inl (zbig hb_3)) hr_13 ?_
      obtain ⟨hk_14, hF⟩ := zg_some hF
      refine z_gets (n := 64) (v := .ref 0) dX8_part_61 rfl zst_Sort_WORD q1014 (fun j h => by cases h; exact ⟨by decide, zsome hk_14⟩) ?_
      obtain ⟨k_17, e_18, hF⟩ := zlet_ob hF
      have H_19 : ∀ (w_16 : Int32) (cc : Nat × Nat), k_17 w_16 = some (cc, r) → zW l G MX8_part (fb + 11) (lb + 216) (cc.1 + 0) (cc.2 + 0) 72 [(0, .ref o0)] [.int w_16, .ref o0] (hK h) (jF h) (hI h) (hL h) (zQe (zor r.1) (hK r.2) (jF r.2) (hI r.2) (hL r.2)) := by
        intro w_16 cc hF
        subst e_18
        dsimp only at hF
        refine z_iconst (n := 73) (v := 1) dX8_part_72 rfl (by first | decide | omega) ?_
        obtain ⟨c_23, t_24, c_20, hF⟩ := zc1_some hF
        obtain ⟨s_21, h_22⟩ := t_24
        dsimp only [zn2] at hF
        obtain ⟨cc, hF, hcc⟩ := zpay_some hF
        refine z_payE hcc ?_
        rcases zsum_some hF with ⟨x_26, e_25, hF⟩ | ⟨w_27, e_25, hF⟩
        rotate_left
        · first | rw [e_25] at c_20 ⊢ | rw [e_25] at c_20
          obtain ⟨rfl, rfl⟩ := zpair hF
          refine z_cVx (n := 76) (mc2 := (((0, 0) : Nat × Nat).1 + 0)) (ms2 := (((0, 0) : Nat × Nat).2 + 0)) (st := []) (C_X8_check htr c_20) dX8_part_73 rfl (lw_V q1090 q1092 qs16 q132 q1093) hcee_X8_check rfl (by first | decide | omega) hk_2 rfl rfl rfl (by first | exact Nat.le_of_ble_eq_true rfl | omega) (Nat.le_of_eq (Nat.add_comm _ _)) (Nat.le_of_eq (Nat.add_comm _ _)) ?_
          exact z_out rfl ⟨rfl, rfl, rfl, rfl, rfl⟩
        first | rw [e_25] at c_20 ⊢ | rw [e_25] at c_20
        refine z_cV (n := 76) (mc2 := (cc.1 + 0)) (ms2 := (cc.2 + 0)) (st := []) (C_X8_check htr c_20) dX8_part_73 rfl (lw_V q1090 q1092 qs16 q132 q1093) hcee_X8_check rfl (by first | decide | omega) hk_2 rfl rfl rfl (by first | exact Nat.le_of_ble_eq_true rfl | omega) (Nat.le_of_eq (Nat.add_comm _ _)) (Nat.le_of_eq (Nat.add_comm _ _)) ?_
        refine z_aload_n (n := 77) dX8_part_76 rfl 0 rfl rfl ?_
        obtain ⟨n_28, hk_29, hF⟩ := zka_some hF
        obtain ⟨o_30, hr_31, hF⟩ := zb1_some hF
        refine z_getRS (n := 80) dX8_part_77 rfl zok7 fX8_11_7 rfl hk_29 (Or.inl (zbig hb_3)) hr_31 ?_
        obtain ⟨q_33, c_32, hF⟩ := zb1_some hF
        refine z_cS (n := 83) (mc2 := (cc.1 + 0)) (ms2 := (cc.2 + 0)) (st := []) (C_X8_valueOf htr c_32) dX8_part_80 rfl (lw_S q1265 q1266 q132 q1267) hcee_X8_valueOf rfl (by first | decide | omega) rfl (by first | exact Nat.le_of_ble_eq_true rfl | omega) (Nat.le_refl _) (Nat.le_refl _) ?_
        refine z_astore_nQ (n := 84) (lv' := [(2, zrf q_33), (0, .ref o0)]) dX8_part_83 rfl rfl (by first | decide | omega) rfl ?_
        refine z_aload_n (n := 85) dX8_part_84 rfl 1 rfl rfl ?_
        refine z_aload_nQ (n := 86) dX8_part_85 rfl 0 rfl rfl ?_
        obtain ⟨k_35, e_36, hF⟩ := zlet_ob hF
        have H_37 : ∀ (w_34 : Int32) (cc : Nat × Nat), k_35 w_34 = some (cc, r) → zW l G MX8_part (fb + 11) (lb + 216) (cc.1 + 0) (cc.2 + 0) 94 [(0, .ref o0), (2, zrf q_33)] [.int w_34, .ref o0] (hK h_22) (jF h_22) (hI h_22) (hL h_22) (zQe (zor r.1) (hK r.2) (jF r.2) (hI r.2) (hL r.2)) := by
          intro w_34 cc hF
          subst e_36
          dsimp only at hF
          refine z_iconst (n := 95) (v := 3) dX8_part_94 rfl (by first | decide | omega) ?_
          obtain ⟨c_41, t_42, c_38, hF⟩ := zc1_some hF
          obtain ⟨s_39, h_40⟩ := t_42
          dsimp only [zn2] at hF
          obtain ⟨cc, hF, hcc⟩ := zpay_some hF
          refine z_payE hcc ?_
          rcases zsum_some hF with ⟨x_44, e_43, hF⟩ | ⟨w_45, e_43, hF⟩
          rotate_left
          · first | rw [e_43] at c_38 ⊢ | rw [e_43] at c_38
            obtain ⟨rfl, rfl⟩ := zpair hF
            refine z_cVx (n := 98) (mc2 := (((0, 0) : Nat × Nat).1 + 0)) (ms2 := (((0, 0) : Nat × Nat).2 + 0)) (st := []) (C_X8_check htr c_38) dX8_part_95 rfl (lw_V q1090 q1092 qs16 q132 q1093) hcee_X8_check rfl (by first | decide | omega) hk_29 rfl rfl rfl (by first | exact Nat.le_of_ble_eq_true rfl | omega) (Nat.le_of_eq (Nat.add_comm _ _)) (Nat.le_of_eq (Nat.add_comm _ _)) ?_
            exact z_out rfl ⟨rfl, rfl, rfl, rfl, rfl⟩
          first | rw [e_43] at c_38 ⊢ | rw [e_43] at c_38
          refine z_cV (n := 98) (mc2 := (cc.1 + 0)) (ms2 := (cc.2 + 0)) (st := []) (C_X8_check htr c_38) dX8_part_95 rfl (lw_V q1090 q1092 qs16 q132 q1093) hcee_X8_check rfl (by first | decide | omega) hk_29 rfl rfl rfl (by first | exact Nat.le_of_ble_eq_true rfl | omega) (Nat.le_of_eq (Nat.add_comm _ _)) (Nat.le_of_eq (Nat.add_comm _ _)) ?_
          refine z_aload_n (n := 99) dX8_part_98 rfl 0 rfl rfl ?_
          obtain ⟨n_46, hk_47, hF⟩ := zka_some hF
          obtain ⟨c_50, h_49, c_48, hF⟩ := zc1_some hF
          obtain ⟨cc, hF, hcc⟩ := zpay_some hF
          refine z_payE hcc ?_
          refine z_cV (n := 102) (mc2 := (cc.1 + 0)) (ms2 := (cc.2 + 0)) (st := []) (C_X8_go htr c_48) dX8_part_99 rfl (lw_V q975 q977 qs13 q132 q978) hcee_X8_go rfl (by first | decide | omega) hk_47 rfl rfl rfl (by first | exact Nat.le_of_ble_eq_true rfl | omega) (Nat.le_of_eq (Nat.add_comm _ _)) (Nat.le_of_eq (Nat.add_comm _ _)) ?_
          obtain ⟨cc, hF, hcc⟩ := zpay_some hF
          refine z_payE hcc ?_
          obtain ⟨hn_51, hF⟩ := zg_some hF
          obtain ⟨o_54, e_55, hF⟩ := zlet_ob hF
          obtain ⟨h_52, e_53, hF⟩ := zlet_ob hF
          refine z_newT (n := 105) dX8_part_102 rfl zok12 ⟨_, rfl, rfl, q1283⟩ q1282 q141 hn_51 e_55 e_53 rfl ?_
          refine z_dup (n := 106) dX8_part_105 rfl rfl ?_
          refine z_aload_nQ (n := 107) dX8_part_106 rfl 1 rfl rfl ?_
          obtain ⟨o_56, hr_57, hF⟩ := zb1_some hF
          rw [hr_57]
          obtain ⟨c_60, h_59, c_58, hF⟩ := zc1_some hF
          obtain ⟨cc, hF, hcc⟩ := zpay_some hF
          refine z_payE hcc ?_
          refine z_cI (n := 110) (mc2 := (cc.1 + 0)) (ms2 := (cc.2 + 0)) (st := [.ref o_54]) (C_X14_init htr c_58) dX8_part_107 rfl q1286 q141 q1284 q1285 rfl hcee_X14_init rfl (by first | decide | omega) rfl (by first | exact Nat.le_of_ble_eq_true rfl | omega) (Nat.le_of_eq (Nat.add_comm _ _)) (Nat.le_of_eq (Nat.add_comm _ _)) ?_
          obtain ⟨rfl, rfl⟩ := zpair hF
          exact z_aret (r := (some o_54)) dX8_part_110 rfl (Or.inl ⟨_, rfl⟩) ⟨rfl, rfl, rfl, rfl, rfl⟩
        clear e_36
        refine z_ifnull (r := q_33) (n := 89) (t := 93) dX8_part_86 rfl (by first | decide | omega) (fun hc => ?_) (fun hc => ?_)
        · replace hF := (if_pos hc).symm.trans hF
          refine z_iconst (n := 94) (v := 0) dX8_part_93 rfl (by first | decide | omega) ?_
          refine z_sub [1, 0] rfl ?_
          exact H_37 0 _ hF
        · replace hF := (if_neg hc).symm.trans hF
          refine z_iconst (n := 90) (v := 1) dX8_part_89 rfl (by first | decide | omega) ?_
          refine z_goto (t := 94) dX8_part_90 (by first | decide | omega) ?_
          refine z_sub [1, 0] rfl ?_
          exact H_37 1 _ hF
      clear e_18
      obtain ⟨hz_15, hF⟩ := zg_some hF
      refine z_acmp_ne (r1 := (some o_12)) (r2 := (some 0)) (n := 67) (t := 71) dX8_part_64 rfl (by first | decide | omega) (zcmpok_ok hz_15) (fun hc => ?_) (fun hc => ?_)
      · replace hF := (if_pos hc).symm.trans hF
        refine z_iconst (n := 72) (v := 0) dX8_part_71 rfl (by first | decide | omega) ?_
        refine z_sub [0] rfl ?_
        exact H_19 0 _ hF
      · replace hF := (if_neg (not_not_intro hc)).symm.trans hF
        refine z_iconst (n := 68) (v := 1) dX8_part_67 rfl (by first | decide | omega) ?_
        refine z_goto (t := 72) dX8_part_68 (by first | decide | omega) ?_
        refine z_sub [0] rfl ?_
        exact H_19 1 _ hF
    · replace hF := (if_neg hc).symm.trans hF
      refine z_aload_n (n := 36) dX8_part_35 rfl 0 rfl rfl ?_
      obtain ⟨c_63, h_62, c_61, hF⟩ := zc1_some hF
      obtain ⟨cc, hF, hcc⟩ := zpay_some hF
      refine z_payE hcc ?_
      refine z_cV (n := 39) (mc2 := (cc.1 + 0)) (ms2 := (cc.2 + 0)) (st := []) (C_X8_go htr c_61) dX8_part_36 rfl (lw_V q975 q977 qs13 q132 q978) hcee_X8_go rfl (by first | decide | omega) hk_2 rfl rfl rfl (by first | exact Nat.le_of_ble_eq_true rfl | omega) (Nat.le_of_eq (Nat.add_comm _ _)) (Nat.le_of_eq (Nat.add_comm _ _)) ?_
      refine z_aload_n (n := 40) dX8_part_39 rfl 0 rfl rfl ?_
      refine z_iload_n (n := 41) dX8_part_40 rfl 1 rfl rfl ?_
      refine z_iconst (n := 42) (v := 1) dX8_part_41 rfl (by first | decide | omega) ?_
      refine z_iadd (n := 43) dX8_part_42 rfl ?_
      obtain ⟨n_64, hk_65, hF⟩ := zka_some hF
      obtain ⟨c_69, t_70, c_66, hF⟩ := zc1_some hF
      obtain ⟨s_67, h_68⟩ := t_70
      dsimp only [zn2] at hF
      obtain ⟨cc, hF, hcc⟩ := zpay_some hF
      refine z_payE hcc ?_
      rcases zsum_some hF with ⟨q_72, e_71, hF⟩ | ⟨w_73, e_71, hF⟩
      rotate_left
      · first | rw [e_71] at c_66 ⊢ | rw [e_71] at c_66
        obtain ⟨rfl, rfl⟩ := zpair hF
        refine z_cVx (n := 46) (mc2 := (((0, 0) : Nat × Nat).1 + 0)) (ms2 := (((0, 0) : Nat × Nat).2 + 0)) (st := []) (hex _ _ _ _ _ c_66) dX8_part_43 rfl (lw_V q1221 q1223 qs23 q132 q1224) hcee_X8_expr rfl (by first | decide | omega) hk_65 rfl rfl rfl (by first | exact Nat.le_of_ble_eq_true rfl | omega) (Nat.le_of_eq (Nat.add_comm _ _)) (Nat.le_of_eq (Nat.add_comm _ _)) ?_
        exact z_out rfl ⟨rfl, rfl, rfl, rfl, rfl⟩
      first | rw [e_71] at c_66 ⊢ | rw [e_71] at c_66
      refine z_cV (n := 46) (mc2 := (cc.1 + 0)) (ms2 := (cc.2 + 0)) (st := []) (hex _ _ _ _ _ c_66) dX8_part_43 rfl (lw_V q1221 q1223 qs23 q132 q1224) hcee_X8_expr rfl (by first | decide | omega) hk_65 rfl rfl rfl (by first | exact Nat.le_of_ble_eq_true rfl | omega) (Nat.le_of_eq (Nat.add_comm _ _)) (Nat.le_of_eq (Nat.add_comm _ _)) ?_
      obtain ⟨o_74, hr_75, hF⟩ := zb1_some hF
      rw [hr_75]
      refine z_astore_nS (n := 47) (lv' := [(2, .ref o_74), (0, .ref o0), (1, .int a0)]) dX8_part_46 rfl rfl (by first | decide | omega) rfl ?_
      refine z_aload_n (n := 48) dX8_part_47 rfl 1 rfl rfl ?_
      obtain ⟨n_77, hk_76, hF⟩ := zka_some hF
      refine z_ldcwS (n := 51) (j := 70) dX8_part_48 rfl zlit_X8_280 (by first | decide | omega) (znn hk_76) ?_
      obtain ⟨n_78, hk_79, hF⟩ := zka_some hF
      obtain ⟨c_83, t_84, c_80, hF⟩ := zc1_some hF
      obtain ⟨s_81, h_82⟩ := t_84
      dsimp only [zn2] at hF
      obtain ⟨cc, hF, hcc⟩ := zpay_some hF
      refine z_payE hcc ?_
      rcases zsum_some hF with ⟨x_86, e_85, hF⟩ | ⟨w_87, e_85, hF⟩
      rotate_left
      · first | rw [e_85] at c_80 ⊢ | rw [e_85] at c_80
        obtain ⟨rfl, rfl⟩ := zpair hF
        refine z_cVx (n := 54) (mc2 := (((0, 0) : Nat × Nat).1 + 0)) (ms2 := (((0, 0) : Nat × Nat).2 + 0)) (st := []) (C_X8_need htr c_80) dX8_part_51 rfl (lw_V q1261 q1263 qs29 q132 q1264) hcee_X8_need rfl (by first | decide | omega) hk_79 rfl rfl rfl (by first | exact Nat.le_of_ble_eq_true rfl | omega) (Nat.le_of_eq (Nat.add_comm _ _)) (Nat.le_of_eq (Nat.add_comm _ _)) ?_
        exact z_out rfl ⟨rfl, rfl, rfl, rfl, rfl⟩
      first | rw [e_85] at c_80 ⊢ | rw [e_85] at c_80
      refine z_cV (n := 54) (mc2 := (cc.1 + 0)) (ms2 := (cc.2 + 0)) (st := []) (C_X8_need htr c_80) dX8_part_51 rfl (lw_V q1261 q1263 qs29 q132 q1264) hcee_X8_need rfl (by first | decide | omega) hk_79 rfl rfl rfl (by first | exact Nat.le_of_ble_eq_true rfl | omega) (Nat.le_of_eq (Nat.add_comm _ _)) (Nat.le_of_eq (Nat.add_comm _ _)) ?_
      refine z_aload_n (n := 55) dX8_part_54 rfl 0 rfl rfl ?_
      obtain ⟨rfl, rfl⟩ := zpair hF
      exact z_aret (r := (some o_74)) dX8_part_55 rfl (Or.inl ⟨_, rfl⟩) ⟨rfl, rfl, rfl, rfl, rfl⟩
  · replace hF := (if_neg (not_not_intro hc)).symm.trans hF
    obtain ⟨cc, hF, hcc⟩ := zpay_some hF
    refine z_payE hcc ?_
    obtain ⟨hn_88, hF⟩ := zg_some hF
    obtain ⟨o_91, e_92, hF⟩ := zlet_ob hF
    obtain ⟨h_89, e_90, hF⟩ := zlet_ob hF
    refine z_newT (n := 13) dX8_part_10 rfl zok11 ⟨_, rfl, rfl, q1248⟩ q1247 q140 hn_88 e_92 e_90 rfl ?_
    refine z_dup (n := 14) dX8_part_13 rfl rfl ?_
    refine z_aload_n (n := 15) dX8_part_14 rfl 0 rfl rfl ?_
    refine z_iconst (n := 16) (v := 0) dX8_part_15 rfl (by first | decide | omega) ?_
    refine z_sipush (n := 19) (v := 9999) dX8_part_16 rfl (by first | decide | omega) ?_
    obtain ⟨n_93, hk_94, hF⟩ := zka_some hF
    obtain ⟨c_98, t_99, c_95, hF⟩ := zc1_some hF
    obtain ⟨s_96, h_97⟩ := t_99
    dsimp only [zn2] at hF
    obtain ⟨cc, hF, hcc⟩ := zpay_some hF
    refine z_payE hcc ?_
    rcases zsum_some hF with ⟨x_101, e_100, hF⟩ | ⟨w_102, e_100, hF⟩
    rotate_left
    · first | rw [e_100] at c_95 ⊢ | rw [e_100] at c_95
      obtain ⟨rfl, rfl⟩ := zpair hF
      refine z_cVx (n := 22) (mc2 := (((0, 0) : Nat × Nat).1 + 0)) (ms2 := (((0, 0) : Nat × Nat).2 + 0)) (st := [.ref o_91, .ref o_91]) (C_X8_number htr c_95) dX8_part_19 rfl (lw_V q1117 q1119 qs17 q132 q1120) hcee_X8_number rfl (by first | decide | omega) hk_94 rfl rfl rfl (by first | exact Nat.le_of_ble_eq_true rfl | omega) (Nat.le_of_eq (Nat.add_comm _ _)) (Nat.le_of_eq (Nat.add_comm _ _)) ?_
      exact z_out rfl ⟨rfl, rfl, rfl, rfl, rfl⟩
    first | rw [e_100] at c_95 ⊢ | rw [e_100] at c_95
    refine z_cV (n := 22) (mc2 := (cc.1 + 0)) (ms2 := (cc.2 + 0)) (st := [.ref o_91, .ref o_91]) (C_X8_number htr c_95) dX8_part_19 rfl (lw_V q1117 q1119 qs17 q132 q1120) hcee_X8_number rfl (by first | decide | omega) hk_94 rfl rfl rfl (by first | exact Nat.le_of_ble_eq_true rfl | omega) (Nat.le_of_eq (Nat.add_comm _ _)) (Nat.le_of_eq (Nat.add_comm _ _)) ?_
    obtain ⟨c_105, h_104, c_103, hF⟩ := zc1_some hF
    obtain ⟨cc, hF, hcc⟩ := zpay_some hF
    refine z_payE hcc ?_
    refine z_cI (n := 25) (mc2 := (cc.1 + 0)) (ms2 := (cc.2 + 0)) (st := [.ref o_91]) (C_X13_init htr c_103) dX8_part_22 rfl q1251 q140 q1249 q1250 rfl hcee_X13_init rfl (by first | decide | omega) rfl (by first | exact Nat.le_of_ble_eq_true rfl | omega) (Nat.le_of_eq (Nat.add_comm _ _)) (Nat.le_of_eq (Nat.add_comm _ _)) ?_
    obtain ⟨rfl, rfl⟩ := zpair hF
    exact z_aret (r := (some o_91)) dX8_part_25 rfl (Or.inl ⟨_, rfl⟩) ⟨rfl, rfl, rfl, rfl, rfl⟩
theorem hcee_J9_charAt : zCee yJ9_charAt RJ9 1 := ⟨rfl, by decide +kernel, by decide +kernel, by decide +kernel⟩
theorem hcee_X15_init : zCee yX15_init RX15 3 := ⟨rfl, by decide +kernel, by decide +kernel, by decide +kernel⟩
theorem hcee_X8_part : zCee yX8_part RX8 1 := ⟨rfl, by decide +kernel, by decide +kernel, by decide +kernel⟩
theorem zlit_X8_273 : ((RX8, 273, "*", 66) : String × Nat × String × Nat) ∈ zLit := List.mem_of_getElem? (i := 18) rfl
theorem zlit_X8_275 : ((RX8, 275, "/", 68) : String × Nat × String × Nat) ∈ zLit := List.mem_of_getElem? (i := 19) rfl
abbrev MX8_product : zM := (RX8, cX8_product, 4, (some (.object "SableCrown$Expr")), "product", [])
noncomputable def F_X8_product_L6 (ex_ : Nat → Int32 → zSt → Option ((Nat × Nat) × ((Option Nat ⊕ (String × Nat)) × zSt))) (o0 : Nat) (a0 : Int32) (o_13 : Nat) (h_14 : zSt) : Option ((Nat × Nat) × ((Nat × zSt) ⊕ ((Nat × zSt) ⊕ ((Option Nat ⊕ (String × Nat)) × zSt)))) := zka (hK h_14) 66 15 (fun n_16 => zka (hK h_14) o0 7 (fun n_17 => zb1 (F_X8_is (hK h_14) (jF h_14) o0 66 (hI h_14)) (fun x_20 => if ¬ x_20 = 0 then zg (decide (600 ≤ o0)) (zb1 ((jF h_14) o0 7) (fun o_22 => zka (hK h_14) o_22 15 (fun n_24 => zb1 (F_J9_charAt (hK h_14) (jF h_14) o_22 0 (hI h_14)) (fun x_27 => zc1 (F_X8_go o0 h_14) (fun c_30 h_29 => zpay c_30 (zpay (1, 3) (zg (zfree h_29) (zlet (hN h_29) (fun o_34 => zlet (znA h_29 13 0) (fun h_32 => zka (hK h_32) o0 7 (fun n_36 => zc1 (F_X8_part ex_ o0 a0 h_32) (fun c_41 => zn2 (fun s_39 h_40 => zpay c_41 (zsum s_39 (fun q_44 => zb1 q_44 (fun o_46 => zc1 (F_X15_init o_34 x_27 o_13 o_46 h_40) (fun c_50 h_49 => zpay c_50 (some ((0, 0), .inl (o_34, h_49)))))) (fun w_45 => some ((0, 0), .inr (.inr (.inr w_45, h_40)))))))))))))))))) else zka (hK h_14) 68 15 (fun n_52 => zb1 (F_X8_is (hK h_14) (jF h_14) o0 68 (hI h_14)) (fun x_54 => if x_54 = 0 then some ((0, 0), .inr (.inl (o_13, h_14))) else zg (decide (600 ≤ o0)) (zb1 ((jF h_14) o0 7) (fun o_56 => zka (hK h_14) o_56 15 (fun n_58 => zb1 (F_J9_charAt (hK h_14) (jF h_14) o_56 0 (hI h_14)) (fun x_61 => zc1 (F_X8_go o0 h_14) (fun c_64 h_63 => zpay c_64 (zpay (1, 3) (zg (zfree h_63) (zlet (hN h_63) (fun o_68 => zlet (znA h_63 13 0) (fun h_66 => zka (hK h_66) o0 7 (fun n_70 => zc1 (F_X8_part ex_ o0 a0 h_66) (fun c_75 => zn2 (fun s_73 h_74 => zpay c_75 (zsum s_73 (fun q_78 => zb1 q_78 (fun o_80 => zc1 (F_X15_init o_68 x_61 o_13 o_80 h_74) (fun c_84 h_83 => zpay c_84 (some ((0, 0), .inl (o_68, h_83)))))) (fun w_79 => some ((0, 0), .inr (.inr (.inr w_79, h_74)))))))))))))))))))))))
noncomputable def F_X8_product (ex_ : Nat → Int32 → zSt → Option ((Nat × Nat) × ((Option Nat ⊕ (String × Nat)) × zSt))) (o0 : Nat) (a0 : Int32) (h : zSt) : Option ((Nat × Nat) × ((Option Nat ⊕ (String × Nat)) × zSt)) := zka (hK h) o0 7 (fun n_1 => zc1 (F_X8_part ex_ o0 a0 h) (fun c_6 => zn2 (fun s_4 h_5 => zpay c_6 (zsum s_4 (fun q_9 => zb1 q_9 (fun o_11 => zcs (zloopC (fun s : Nat × zSt => F_X8_product_L6 ex_ o0 a0 s.1 s.2) (o_11, h_5)) (fun c_88 t_89 => zpay c_88 ((zn2 (fun o_85 h_86 => some ((0, 0), (.inl (some o_85), h_86)))) t_89)) (fun c_88 z_91 => zpay c_88 (some ((0, 0), z_91))))) (fun w_10 => some ((0, 0), (.inr w_10, h_5)))))))
set_option maxHeartbeats 1000000 in
theorem W_X8_product_L6 {l : Launch} {G : zGt} (htr : l.stackTraces = false) {Q : zQt} {mE wE : Nat} {cc : Nat × Nat} {ex_ : Nat → Int32 → zSt → Option ((Nat × Nat) × ((Option Nat ⊕ (String × Nat)) × zSt))} {o0 : Nat} {a0 : Int32} {o_13 : Nat} {h_14 : zSt} {fb lb : Nat} (hex : ∀ (o : Nat) (a : Int32) (h : zSt) (cc : Nat × Nat) (r : (Option Nat ⊕ (String × Nat)) × zSt), ex_ o a h = some (cc, r) → zMet l G yX8_expr (ws_ yX8_expr cX8_expr 3 (some (.object "SableCrown$Expr"))) fb lb cc.1 cc.2 [.ref o, .int a] (hK h) (jF h) (hI h) (hL h) (zQe (zor r.1) (hK r.2) (jF r.2) (hI r.2) (hL r.2))) {r : (Nat × zSt) ⊕ ((Nat × zSt) ⊕ ((Option Nat ⊕ (String × Nat)) × zSt))} (hF : F_X8_product_L6 ex_ o0 a0 o_13 h_14 = some (cc, r)) (kl : ∀ (z0 : Nat) (z1 : zSt), r = .inl (z0, z1) → zW l G MX8_product (fb + 12) (lb + 238) mE wE 6 [(0, .ref o0), (1, .int a0), (2, .ref z0)] [] (hK z1) (jF z1) (hI z1) (hL z1) Q) (kx : ∀ (y0 : Nat) (y1 : zSt), r = .inr (.inl (y0, y1)) → zW l G MX8_product (fb + 12) (lb + 238) mE wE 57 [(2, .ref y0)] [] (hK y1) (jF y1) (hI y1) (hL y1) Q) (kq : ∀ z : (Option Nat ⊕ (String × Nat)) × zSt, r = .inr (.inr z) → Q (zor z.1) (hK z.2) (jF z.2) (hI z.2) (hL z.2)) : zW l G MX8_product (fb + 12) (lb + 238) (cc.1 + mE) (cc.2 + wE) 6 [(0, .ref o0), (1, .int a0), (2, .ref o_13)] [] (hK h_14) (jF h_14) (hI h_14) (hL h_14) Q := by
  unfold F_X8_product_L6 at hF
  refine z_aload_n (n := 7) dX8_product_6 rfl 0 rfl rfl ?_
  obtain ⟨n_16, hk_15, hF⟩ := zka_some hF
  refine z_ldcwS (n := 10) (j := 66) dX8_product_7 rfl zlit_X8_273 (by first | decide | omega) (znn hk_15) ?_
  obtain ⟨n_17, hk_18, hF⟩ := zka_some hF
  obtain ⟨x_20, c_19, hF⟩ := zb1_some hF
  refine z_cV (n := 13) (mc2 := (cc.1 + mE)) (ms2 := (cc.2 + wE)) (st := []) (C_X8_is htr c_19) dX8_product_10 rfl (lw_V q1078 q1080 qs15 q132 q1081) hcee_X8_is rfl (by first | decide | omega) hk_18 rfl rfl rfl (by first | exact Nat.le_of_ble_eq_true rfl | omega) (Nat.le_refl _) (Nat.le_refl _) ?_
  refine z_if_ne (n := 16) (t := 26) dX8_product_13 rfl (by first | decide | omega) (fun hc => ?_) (fun hc => ?_)
  · replace hF := (if_pos hc).symm.trans hF
    refine z_aload_n (n := 27) dX8_product_26 rfl 0 rfl rfl ?_
    obtain ⟨hb_21, hF⟩ := zg_some hF
    obtain ⟨o_22, hr_23, hF⟩ := zb1_some hF
    refine z_getRS (n := 30) dX8_product_27 rfl zok7 fX8_11_7 rfl hk_18 (Or.inl (zbig hb_21)) hr_23 ?_
    refine z_iconst (n := 31) (v := 0) dX8_product_30 rfl (by first | decide | omega) ?_
    obtain ⟨n_24, hk_25, hF⟩ := zka_some hF
    obtain ⟨x_27, c_26, hF⟩ := zb1_some hF
    refine z_cV (n := 34) (mc2 := (cc.1 + mE)) (ms2 := (cc.2 + wE)) (st := []) (C_J9_charAt htr c_26) dX8_product_31 rfl (lw_V q1294 q1295 q1296 q116 q1297) hcee_J9_charAt rfl (by first | decide | omega) hk_25 rfl rfl rfl (by first | exact Nat.le_of_ble_eq_true rfl | omega) (Nat.le_refl _) (Nat.le_refl _) ?_
    refine z_istore_nE (n := 35) (lv' := [(3, .int x_27), (0, .ref o0), (1, .int a0), (2, .ref o_13)]) dX8_product_34 rfl rfl rfl (by first | decide | omega) rfl ?_
    refine z_aload_n (n := 36) dX8_product_35 rfl 1 rfl rfl ?_
    obtain ⟨c_30, h_29, c_28, hF⟩ := zc1_some hF
    obtain ⟨cc, hF, hcc⟩ := zpay_some hF
    refine z_payE hcc ?_
    refine z_cV (n := 39) (mc2 := (cc.1 + mE)) (ms2 := (cc.2 + wE)) (st := []) (C_X8_go htr c_28) dX8_product_36 rfl (lw_V q975 q977 qs13 q132 q978) hcee_X8_go rfl (by first | decide | omega) hk_18 rfl rfl rfl (by first | exact Nat.le_of_ble_eq_true rfl | omega) (Nat.le_of_eq (Nat.add_comm _ _)) (Nat.le_of_eq (Nat.add_comm _ _)) ?_
    obtain ⟨cc, hF, hcc⟩ := zpay_some hF
    refine z_payE hcc ?_
    obtain ⟨hn_31, hF⟩ := zg_some hF
    obtain ⟨o_34, e_35, hF⟩ := zlet_ob hF
    obtain ⟨h_32, e_33, hF⟩ := zlet_ob hF
    refine z_newT (n := 42) dX8_product_39 rfl zok13 ⟨_, rfl, rfl, q1310⟩ q1309 q142 hn_31 e_35 e_33 rfl ?_
    refine z_dup (n := 43) dX8_product_42 rfl rfl ?_
    refine z_iload_n (n := 44) dX8_product_43 rfl 0 rfl rfl ?_
    refine z_aload_n (n := 45) dX8_product_44 rfl 3 rfl rfl ?_
    refine z_aload_n (n := 46) dX8_product_45 rfl 1 rfl rfl ?_
    refine z_iload_n (n := 47) dX8_product_46 rfl 2 rfl rfl ?_
    obtain ⟨n_36, hk_37, hF⟩ := zka_some hF
    obtain ⟨c_41, t_42, c_38, hF⟩ := zc1_some hF
    obtain ⟨s_39, h_40⟩ := t_42
    dsimp only [zn2] at hF
    obtain ⟨cc, hF, hcc⟩ := zpay_some hF
    refine z_payE hcc ?_
    rcases zsum_some hF with ⟨q_44, e_43, hF⟩ | ⟨w_45, e_43, hF⟩
    rotate_left
    · first | rw [e_43] at c_38 ⊢ | rw [e_43] at c_38
      obtain ⟨rfl, rfl⟩ := zpair hF
      refine z_cVx (n := 50) (mc2 := (((0, 0) : Nat × Nat).1 + mE)) (ms2 := (((0, 0) : Nat × Nat).2 + wE)) (st := [.ref o_13, .int x_27, .ref o_34, .ref o_34]) (C_X8_part htr hex c_38) dX8_product_47 rfl (lw_V q1243 q1245 qs28 q132 q1246) hcee_X8_part rfl (by first | decide | omega) hk_37 rfl rfl rfl (by first | exact Nat.le_of_ble_eq_true rfl | omega) (Nat.le_of_eq (Nat.add_comm _ _)) (Nat.le_of_eq (Nat.add_comm _ _)) ?_
      exact z_out rfl (kq _ rfl)
    first | rw [e_43] at c_38 ⊢ | rw [e_43] at c_38
    refine z_cV (n := 50) (mc2 := (cc.1 + mE)) (ms2 := (cc.2 + wE)) (st := [.ref o_13, .int x_27, .ref o_34, .ref o_34]) (C_X8_part htr hex c_38) dX8_product_47 rfl (lw_V q1243 q1245 qs28 q132 q1246) hcee_X8_part rfl (by first | decide | omega) hk_37 rfl rfl rfl (by first | exact Nat.le_of_ble_eq_true rfl | omega) (Nat.le_of_eq (Nat.add_comm _ _)) (Nat.le_of_eq (Nat.add_comm _ _)) ?_
    obtain ⟨o_46, hr_47, hF⟩ := zb1_some hF
    rw [hr_47]
    obtain ⟨c_50, h_49, c_48, hF⟩ := zc1_some hF
    obtain ⟨cc, hF, hcc⟩ := zpay_some hF
    refine z_payE hcc ?_
    refine z_cI (n := 53) (mc2 := (cc.1 + mE)) (ms2 := (cc.2 + wE)) (st := [.ref o_34]) (C_X15_init htr c_48) dX8_product_50 rfl q1313 q142 q1311 q1312 rfl hcee_X15_init rfl (by first | decide | omega) rfl (by first | exact Nat.le_of_ble_eq_true rfl | omega) (Nat.le_of_eq (Nat.add_comm _ _)) (Nat.le_of_eq (Nat.add_comm _ _)) ?_
    refine z_astore_nS (n := 54) (lv' := [(2, .ref o_34), (3, .int x_27), (0, .ref o0), (1, .int a0)]) dX8_product_53 rfl rfl (by first | decide | omega) rfl ?_
    refine z_goto (t := 6) dX8_product_54 (by first | decide | omega) ?_
    refine z_sub [2, 3, 0] rfl ?_
    obtain ⟨rfl, rfl⟩ := zpair hF
    refine z_eq (Nat.zero_add _) (Nat.zero_add _) ?_
    exact kl o_34 h_49 rfl
  · replace hF := (if_neg hc).symm.trans hF
    refine z_aload_n (n := 17) dX8_product_16 rfl 0 rfl rfl ?_
    obtain ⟨n_52, hk_51, hF⟩ := zka_some hF
    refine z_ldcwS (n := 20) (j := 68) dX8_product_17 rfl zlit_X8_275 (by first | decide | omega) (znn hk_51) ?_
    obtain ⟨x_54, c_53, hF⟩ := zb1_some hF
    refine z_cV (n := 23) (mc2 := (cc.1 + mE)) (ms2 := (cc.2 + wE)) (st := []) (C_X8_is htr c_53) dX8_product_20 rfl (lw_V q1078 q1080 qs15 q132 q1081) hcee_X8_is rfl (by first | decide | omega) hk_18 rfl rfl rfl (by first | exact Nat.le_of_ble_eq_true rfl | omega) (Nat.le_refl _) (Nat.le_refl _) ?_
    refine z_if_eq (n := 26) (t := 57) dX8_product_23 rfl (by first | decide | omega) (fun hc => ?_) (fun hc => ?_)
    · replace hF := (if_pos hc).symm.trans hF
      refine z_sub [2] rfl ?_
      obtain ⟨rfl, rfl⟩ := zpair hF
      refine z_eq (Nat.zero_add _) (Nat.zero_add _) ?_
      exact kx o_13 h_14 rfl
    · replace hF := (if_neg hc).symm.trans hF
      refine z_aload_n (n := 27) dX8_product_26 rfl 0 rfl rfl ?_
      obtain ⟨hb_55, hF⟩ := zg_some hF
      obtain ⟨o_56, hr_57, hF⟩ := zb1_some hF
      refine z_getRS (n := 30) dX8_product_27 rfl zok7 fX8_11_7 rfl hk_18 (Or.inl (zbig hb_55)) hr_57 ?_
      refine z_iconst (n := 31) (v := 0) dX8_product_30 rfl (by first | decide | omega) ?_
      obtain ⟨n_58, hk_59, hF⟩ := zka_some hF
      obtain ⟨x_61, c_60, hF⟩ := zb1_some hF
      refine z_cV (n := 34) (mc2 := (cc.1 + mE)) (ms2 := (cc.2 + wE)) (st := []) (C_J9_charAt htr c_60) dX8_product_31 rfl (lw_V q1294 q1295 q1296 q116 q1297) hcee_J9_charAt rfl (by first | decide | omega) hk_59 rfl rfl rfl (by first | exact Nat.le_of_ble_eq_true rfl | omega) (Nat.le_refl _) (Nat.le_refl _) ?_
      refine z_istore_nE (n := 35) (lv' := [(3, .int x_61), (0, .ref o0), (1, .int a0), (2, .ref o_13)]) dX8_product_34 rfl rfl rfl (by first | decide | omega) rfl ?_
      refine z_aload_n (n := 36) dX8_product_35 rfl 1 rfl rfl ?_
      obtain ⟨c_64, h_63, c_62, hF⟩ := zc1_some hF
      obtain ⟨cc, hF, hcc⟩ := zpay_some hF
      refine z_payE hcc ?_
      refine z_cV (n := 39) (mc2 := (cc.1 + mE)) (ms2 := (cc.2 + wE)) (st := []) (C_X8_go htr c_62) dX8_product_36 rfl (lw_V q975 q977 qs13 q132 q978) hcee_X8_go rfl (by first | decide | omega) hk_18 rfl rfl rfl (by first | exact Nat.le_of_ble_eq_true rfl | omega) (Nat.le_of_eq (Nat.add_comm _ _)) (Nat.le_of_eq (Nat.add_comm _ _)) ?_
      obtain ⟨cc, hF, hcc⟩ := zpay_some hF
      refine z_payE hcc ?_
      obtain ⟨hn_65, hF⟩ := zg_some hF
      obtain ⟨o_68, e_69, hF⟩ := zlet_ob hF
      obtain ⟨h_66, e_67, hF⟩ := zlet_ob hF
      refine z_newT (n := 42) dX8_product_39 rfl zok13 ⟨_, rfl, rfl, q1310⟩ q1309 q142 hn_65 e_69 e_67 rfl ?_
      refine z_dup (n := 43) dX8_product_42 rfl rfl ?_
      refine z_iload_n (n := 44) dX8_product_43 rfl 0 rfl rfl ?_
      refine z_aload_n (n := 45) dX8_product_44 rfl 3 rfl rfl ?_
      refine z_aload_n (n := 46) dX8_product_45 rfl 1 rfl rfl ?_
      refine z_iload_n (n := 47) dX8_product_46 rfl 2 rfl rfl ?_
      obtain ⟨n_70, hk_71, hF⟩ := zka_some hF
      obtain ⟨c_75, t_76, c_72, hF⟩ := zc1_some hF
      obtain ⟨s_73, h_74⟩ := t_76
      dsimp only [zn2] at hF
      obtain ⟨cc, hF, hcc⟩ := zpay_some hF
      refine z_payE hcc ?_
      rcases zsum_some hF with ⟨q_78, e_77, hF⟩ | ⟨w_79, e_77, hF⟩
      rotate_left
      · first | rw [e_77] at c_72 ⊢ | rw [e_77] at c_72
        obtain ⟨rfl, rfl⟩ := zpair hF
        refine z_cVx (n := 50) (mc2 := (((0, 0) : Nat × Nat).1 + mE)) (ms2 := (((0, 0) : Nat × Nat).2 + wE)) (st := [.ref o_13, .int x_61, .ref o_68, .ref o_68]) (C_X8_part htr hex c_72) dX8_product_47 rfl (lw_V q1243 q1245 qs28 q132 q1246) hcee_X8_part rfl (by first | decide | omega) hk_71 rfl rfl rfl (by first | exact Nat.le_of_ble_eq_true rfl | omega) (Nat.le_of_eq (Nat.add_comm _ _)) (Nat.le_of_eq (Nat.add_comm _ _)) ?_
        exact z_out rfl (kq _ rfl)
      first | rw [e_77] at c_72 ⊢ | rw [e_77] at c_72
      refine z_cV (n := 50) (mc2 := (cc.1 + mE)) (ms2 := (cc.2 + wE)) (st := [.ref o_13, .int x_61, .ref o_68, .ref o_68]) (C_X8_part htr hex c_72) dX8_product_47 rfl (lw_V q1243 q1245 qs28 q132 q1246) hcee_X8_part rfl (by first | decide | omega) hk_71 rfl rfl rfl (by first | exact Nat.le_of_ble_eq_true rfl | omega) (Nat.le_of_eq (Nat.add_comm _ _)) (Nat.le_of_eq (Nat.add_comm _ _)) ?_
      obtain ⟨o_80, hr_81, hF⟩ := zb1_some hF
      rw [hr_81]
      obtain ⟨c_84, h_83, c_82, hF⟩ := zc1_some hF
      obtain ⟨cc, hF, hcc⟩ := zpay_some hF
      refine z_payE hcc ?_
      refine z_cI (n := 53) (mc2 := (cc.1 + mE)) (ms2 := (cc.2 + wE)) (st := [.ref o_68]) (C_X15_init htr c_82) dX8_product_50 rfl q1313 q142 q1311 q1312 rfl hcee_X15_init rfl (by first | decide | omega) rfl (by first | exact Nat.le_of_ble_eq_true rfl | omega) (Nat.le_of_eq (Nat.add_comm _ _)) (Nat.le_of_eq (Nat.add_comm _ _)) ?_
      refine z_astore_nS (n := 54) (lv' := [(2, .ref o_68), (3, .int x_61), (0, .ref o0), (1, .int a0)]) dX8_product_53 rfl rfl (by first | decide | omega) rfl ?_
      refine z_goto (t := 6) dX8_product_54 (by first | decide | omega) ?_
      refine z_sub [2, 3, 0] rfl ?_
      obtain ⟨rfl, rfl⟩ := zpair hF
      refine z_eq (Nat.zero_add _) (Nat.zero_add _) ?_
      exact kl o_68 h_83 rfl
set_option maxHeartbeats 1000000 in
theorem C_X8_product {l : Launch} {G : zGt} (htr : l.stackTraces = false) {ex_ : Nat → Int32 → zSt → Option ((Nat × Nat) × ((Option Nat ⊕ (String × Nat)) × zSt))} {o0 : Nat} {a0 : Int32} {fb lb : Nat} (hex : ∀ (o : Nat) (a : Int32) (h : zSt) (cc : Nat × Nat) (r : (Option Nat ⊕ (String × Nat)) × zSt), ex_ o a h = some (cc, r) → zMet l G yX8_expr (ws_ yX8_expr cX8_expr 3 (some (.object "SableCrown$Expr"))) fb lb cc.1 cc.2 [.ref o, .int a] (hK h) (jF h) (hI h) (hL h) (zQe (zor r.1) (hK r.2) (jF r.2) (hI r.2) (hL r.2))) {h : zSt} {cc : Nat × Nat} {r : (Option Nat ⊕ (String × Nat)) × zSt} (hF : F_X8_product ex_ o0 a0 h = some (cc, r)) : zMet l G yX8_product (ws_ yX8_product cX8_product 4 (some (.object "SableCrown$Expr"))) (fb + 12) (lb + 238) (cc.1 + 0) (cc.2 + 0) [.ref o0, .int a0] (hK h) (jF h) (hI h) (hL h) (zQe (zor r.1) (hK r.2) (jF r.2) (hI r.2) (hL r.2)) := by
  refine zMet.of (by decide +kernel) htr (by first | exact Nat.le_of_ble_eq_true rfl | omega) ?_
  change zW l G MX8_product (fb + 12) (lb + 238) (cc.1 + 0) (cc.2 + 0) 0 [(0, .ref o0), (1, .int a0)] [] (hK h) (jF h) (hI h) (hL h) (zQe (zor r.1) (hK r.2) (jF r.2) (hI r.2) (hL r.2))
  unfold F_X8_product at hF
  refine z_aload_n (n := 1) dX8_product_0 rfl 0 rfl rfl ?_
  refine z_iload_n (n := 2) dX8_product_1 rfl 1 rfl rfl ?_
  obtain ⟨n_1, hk_2, hF⟩ := zka_some hF
  obtain ⟨c_6, t_7, c_3, hF⟩ := zc1_some hF
  obtain ⟨s_4, h_5⟩ := t_7
  dsimp only [zn2] at hF
  obtain ⟨cc, hF, hcc⟩ := zpay_some hF
  refine z_payE hcc ?_
  rcases zsum_some hF with ⟨q_9, e_8, hF⟩ | ⟨w_10, e_8, hF⟩
  rotate_left
  · first | rw [e_8] at c_3 ⊢ | rw [e_8] at c_3
    obtain ⟨rfl, rfl⟩ := zpair hF
    refine z_cVx (n := 5) (mc2 := (((0, 0) : Nat × Nat).1 + 0)) (ms2 := (((0, 0) : Nat × Nat).2 + 0)) (st := []) (C_X8_part htr hex c_3) dX8_product_2 rfl (lw_V q1243 q1245 qs28 q132 q1246) hcee_X8_part rfl (by first | decide | omega) hk_2 rfl rfl rfl (by first | exact Nat.le_of_ble_eq_true rfl | omega) (Nat.le_of_eq (Nat.add_comm _ _)) (Nat.le_of_eq (Nat.add_comm _ _)) ?_
    exact z_out rfl ⟨rfl, rfl, rfl, rfl, rfl⟩
  first | rw [e_8] at c_3 ⊢ | rw [e_8] at c_3
  refine z_cV (n := 5) (mc2 := (cc.1 + 0)) (ms2 := (cc.2 + 0)) (st := []) (C_X8_part htr hex c_3) dX8_product_2 rfl (lw_V q1243 q1245 qs28 q132 q1246) hcee_X8_part rfl (by first | decide | omega) hk_2 rfl rfl rfl (by first | exact Nat.le_of_ble_eq_true rfl | omega) (Nat.le_of_eq (Nat.add_comm _ _)) (Nat.le_of_eq (Nat.add_comm _ _)) ?_
  obtain ⟨o_11, hr_12, hF⟩ := zb1_some hF
  rw [hr_12]
  refine z_astore_nS (n := 6) (lv' := [(2, .ref o_11), (0, .ref o0), (1, .int a0)]) dX8_product_5 rfl rfl (by first | decide | omega) rfl ?_
  refine z_sub [1, 2, 0] rfl ?_
  rcases zcs_some hF with ⟨c_88, t_89, e_87, hF⟩ | ⟨c_88, t_89, e_87, hF⟩
  · skip
    obtain ⟨cc, hF, hcc⟩ := zpay_some hF
    obtain ⟨o_85, h_86⟩ := t_89
    dsimp only [zn2] at hF
    have H_90 : zW l G MX8_product (fb + 12) (lb + 238) (cc.1 + 0) (cc.2 + 0) 57 [(2, .ref o_85)] [] (hK h_86) (jF h_86) (hI h_86) (hL h_86) (zQe (zor r.1) (hK r.2) (jF r.2) (hI r.2) (hL r.2)) := by
      refine z_aload_n (n := 58) dX8_product_57 rfl 0 rfl rfl ?_
      obtain ⟨rfl, rfl⟩ := zpair hF
      exact z_aret (r := (some o_85)) dX8_product_58 rfl (Or.inl ⟨_, rfl⟩) ⟨rfl, rfl, rfl, rfl, rfl⟩
    refine z_payE hcc ?_
    refine zloopC_ind (P := fun (s : Nat × zSt) m w => zW l G MX8_product (fb + 12) (lb + 238) (m + (cc.1 + 0)) (w + (cc.2 + 0)) 6 [(0, .ref o0), (1, .int a0), (2, .ref s.1)] [] (hK s.2) (jF s.2) (hI s.2) (hL s.2) (zQe (zor r.1) (hK r.2) (jF r.2) (hI r.2) (hL r.2))) (fun s c r E9 W9 hb kl kr => ?_) e_87
    refine z_eq (Nat.add_assoc _ _ _) (Nat.add_assoc _ _ _) ?_
    exact W_X8_product_L6 (ex_ := ex_) (o0 := o0) (a0 := a0) htr hex hb (fun z0 z1 e => kl _ e) (fun y0 y1 e => by obtain ⟨h1, rfl, rfl⟩ := kr _ e; cases h1; exact z_eq (Nat.zero_add _) (Nat.zero_add _) H_90) (fun z e => by have h1 := (kr _ e).1; cases h1)
  · skip
    obtain ⟨cc, hF, hcc⟩ := zpay_some hF
    obtain ⟨h9, hq⟩ := zpair hF
    subst h9
    refine z_payE hcc ?_
    refine zloopC_ind (P := fun (s : Nat × zSt) m w => zW l G MX8_product (fb + 12) (lb + 238) (m + (((0, 0) : Nat × Nat).1 + 0)) (w + (((0, 0) : Nat × Nat).2 + 0)) 6 [(0, .ref o0), (1, .int a0), (2, .ref s.1)] [] (hK s.2) (jF s.2) (hI s.2) (hL s.2) (zQe (zor r.1) (hK r.2) (jF r.2) (hI r.2) (hL r.2))) (fun s c r E9 W9 hb kl kr => ?_) e_87
    refine z_eq (Nat.add_assoc _ _ _) (Nat.add_assoc _ _ _) ?_
    exact W_X8_product_L6 (ex_ := ex_) (o0 := o0) (a0 := a0) htr hex hb (fun z0 z1 e => kl _ e) (fun y0 y1 e => by have h1 := (kr _ e).1; cases h1) (fun z e => by have h1 := (kr _ e).1; cases h1; subst hq; exact ⟨rfl, rfl, rfl, rfl, rfl⟩)
theorem hcee_X8_product : zCee yX8_product RX8 1 := ⟨rfl, by decide +kernel, by decide +kernel, by decide +kernel⟩
theorem zlit_X8_266 : ((RX8, 266, "+", 62) : String × Nat × String × Nat) ∈ zLit := List.mem_of_getElem? (i := 16) rfl
theorem zlit_X8_268 : ((RX8, 268, "-", 64) : String × Nat × String × Nat) ∈ zLit := List.mem_of_getElem? (i := 17) rfl
abbrev MX8_sum : zM := (RX8, cX8_sum, 4, (some (.object "SableCrown$Expr")), "sum", [])
noncomputable def F_X8_sum_L6 (ex_ : Nat → Int32 → zSt → Option ((Nat × Nat) × ((Option Nat ⊕ (String × Nat)) × zSt))) (o0 : Nat) (a0 : Int32) (o_13 : Nat) (h_14 : zSt) : Option ((Nat × Nat) × ((Nat × zSt) ⊕ ((Nat × zSt) ⊕ ((Option Nat ⊕ (String × Nat)) × zSt)))) := zka (hK h_14) 62 15 (fun n_16 => zka (hK h_14) o0 7 (fun n_17 => zb1 (F_X8_is (hK h_14) (jF h_14) o0 62 (hI h_14)) (fun x_20 => if ¬ x_20 = 0 then zg (decide (600 ≤ o0)) (zb1 ((jF h_14) o0 7) (fun o_22 => zka (hK h_14) o_22 15 (fun n_24 => zb1 (F_J9_charAt (hK h_14) (jF h_14) o_22 0 (hI h_14)) (fun x_27 => zc1 (F_X8_go o0 h_14) (fun c_30 h_29 => zpay c_30 (zpay (1, 3) (zg (zfree h_29) (zlet (hN h_29) (fun o_34 => zlet (znA h_29 13 0) (fun h_32 => zka (hK h_32) o0 7 (fun n_36 => zc1 (F_X8_product ex_ o0 a0 h_32) (fun c_41 => zn2 (fun s_39 h_40 => zpay c_41 (zsum s_39 (fun q_44 => zb1 q_44 (fun o_46 => zc1 (F_X15_init o_34 x_27 o_13 o_46 h_40) (fun c_50 h_49 => zpay c_50 (some ((0, 0), .inl (o_34, h_49)))))) (fun w_45 => some ((0, 0), .inr (.inr (.inr w_45, h_40)))))))))))))))))) else zka (hK h_14) 64 15 (fun n_52 => zb1 (F_X8_is (hK h_14) (jF h_14) o0 64 (hI h_14)) (fun x_54 => if x_54 = 0 then some ((0, 0), .inr (.inl (o_13, h_14))) else zg (decide (600 ≤ o0)) (zb1 ((jF h_14) o0 7) (fun o_56 => zka (hK h_14) o_56 15 (fun n_58 => zb1 (F_J9_charAt (hK h_14) (jF h_14) o_56 0 (hI h_14)) (fun x_61 => zc1 (F_X8_go o0 h_14) (fun c_64 h_63 => zpay c_64 (zpay (1, 3) (zg (zfree h_63) (zlet (hN h_63) (fun o_68 => zlet (znA h_63 13 0) (fun h_66 => zka (hK h_66) o0 7 (fun n_70 => zc1 (F_X8_product ex_ o0 a0 h_66) (fun c_75 => zn2 (fun s_73 h_74 => zpay c_75 (zsum s_73 (fun q_78 => zb1 q_78 (fun o_80 => zc1 (F_X15_init o_68 x_61 o_13 o_80 h_74) (fun c_84 h_83 => zpay c_84 (some ((0, 0), .inl (o_68, h_83)))))) (fun w_79 => some ((0, 0), .inr (.inr (.inr w_79, h_74)))))))))))))))))))))))
noncomputable def F_X8_sum (ex_ : Nat → Int32 → zSt → Option ((Nat × Nat) × ((Option Nat ⊕ (String × Nat)) × zSt))) (o0 : Nat) (a0 : Int32) (h : zSt) : Option ((Nat × Nat) × ((Option Nat ⊕ (String × Nat)) × zSt)) := zka (hK h) o0 7 (fun n_1 => zc1 (F_X8_product ex_ o0 a0 h) (fun c_6 => zn2 (fun s_4 h_5 => zpay c_6 (zsum s_4 (fun q_9 => zb1 q_9 (fun o_11 => zcs (zloopC (fun s : Nat × zSt => F_X8_sum_L6 ex_ o0 a0 s.1 s.2) (o_11, h_5)) (fun c_88 t_89 => zpay c_88 ((zn2 (fun o_85 h_86 => some ((0, 0), (.inl (some o_85), h_86)))) t_89)) (fun c_88 z_91 => zpay c_88 (some ((0, 0), z_91))))) (fun w_10 => some ((0, 0), (.inr w_10, h_5)))))))
set_option maxHeartbeats 1000000 in
theorem W_X8_sum_L6 {l : Launch} {G : zGt} (htr : l.stackTraces = false) {Q : zQt} {mE wE : Nat} {cc : Nat × Nat} {ex_ : Nat → Int32 → zSt → Option ((Nat × Nat) × ((Option Nat ⊕ (String × Nat)) × zSt))} {o0 : Nat} {a0 : Int32} {o_13 : Nat} {h_14 : zSt} {fb lb : Nat} (hex : ∀ (o : Nat) (a : Int32) (h : zSt) (cc : Nat × Nat) (r : (Option Nat ⊕ (String × Nat)) × zSt), ex_ o a h = some (cc, r) → zMet l G yX8_expr (ws_ yX8_expr cX8_expr 3 (some (.object "SableCrown$Expr"))) fb lb cc.1 cc.2 [.ref o, .int a] (hK h) (jF h) (hI h) (hL h) (zQe (zor r.1) (hK r.2) (jF r.2) (hI r.2) (hL r.2))) {r : (Nat × zSt) ⊕ ((Nat × zSt) ⊕ ((Option Nat ⊕ (String × Nat)) × zSt))} (hF : F_X8_sum_L6 ex_ o0 a0 o_13 h_14 = some (cc, r)) (kl : ∀ (z0 : Nat) (z1 : zSt), r = .inl (z0, z1) → zW l G MX8_sum (fb + 13) (lb + 261) mE wE 6 [(0, .ref o0), (1, .int a0), (2, .ref z0)] [] (hK z1) (jF z1) (hI z1) (hL z1) Q) (kx : ∀ (y0 : Nat) (y1 : zSt), r = .inr (.inl (y0, y1)) → zW l G MX8_sum (fb + 13) (lb + 261) mE wE 57 [(2, .ref y0)] [] (hK y1) (jF y1) (hI y1) (hL y1) Q) (kq : ∀ z : (Option Nat ⊕ (String × Nat)) × zSt, r = .inr (.inr z) → Q (zor z.1) (hK z.2) (jF z.2) (hI z.2) (hL z.2)) : zW l G MX8_sum (fb + 13) (lb + 261) (cc.1 + mE) (cc.2 + wE) 6 [(0, .ref o0), (1, .int a0), (2, .ref o_13)] [] (hK h_14) (jF h_14) (hI h_14) (hL h_14) Q := by
  unfold F_X8_sum_L6 at hF
  refine z_aload_n (n := 7) dX8_sum_6 rfl 0 rfl rfl ?_
  obtain ⟨n_16, hk_15, hF⟩ := zka_some hF
  refine z_ldcwS (n := 10) (j := 62) dX8_sum_7 rfl zlit_X8_266 (by first | decide | omega) (znn hk_15) ?_
  obtain ⟨n_17, hk_18, hF⟩ := zka_some hF
  obtain ⟨x_20, c_19, hF⟩ := zb1_some hF
  refine z_cV (n := 13) (mc2 := (cc.1 + mE)) (ms2 := (cc.2 + wE)) (st := []) (C_X8_is htr c_19) dX8_sum_10 rfl (lw_V q1078 q1080 qs15 q132 q1081) hcee_X8_is rfl (by first | decide | omega) hk_18 rfl rfl rfl (by first | exact Nat.le_of_ble_eq_true rfl | omega) (Nat.le_refl _) (Nat.le_refl _) ?_
  refine z_if_ne (n := 16) (t := 26) dX8_sum_13 rfl (by first | decide | omega) (fun hc => ?_) (fun hc => ?_)
  · replace hF := (if_pos hc).symm.trans hF
    refine z_aload_n (n := 27) dX8_sum_26 rfl 0 rfl rfl ?_
    obtain ⟨hb_21, hF⟩ := zg_some hF
    obtain ⟨o_22, hr_23, hF⟩ := zb1_some hF
    refine z_getRS (n := 30) dX8_sum_27 rfl zok7 fX8_11_7 rfl hk_18 (Or.inl (zbig hb_21)) hr_23 ?_
    refine z_iconst (n := 31) (v := 0) dX8_sum_30 rfl (by first | decide | omega) ?_
    obtain ⟨n_24, hk_25, hF⟩ := zka_some hF
    obtain ⟨x_27, c_26, hF⟩ := zb1_some hF
    refine z_cV (n := 34) (mc2 := (cc.1 + mE)) (ms2 := (cc.2 + wE)) (st := []) (C_J9_charAt htr c_26) dX8_sum_31 rfl (lw_V q1294 q1295 q1296 q116 q1297) hcee_J9_charAt rfl (by first | decide | omega) hk_25 rfl rfl rfl (by first | exact Nat.le_of_ble_eq_true rfl | omega) (Nat.le_refl _) (Nat.le_refl _) ?_
    refine z_istore_nE (n := 35) (lv' := [(3, .int x_27), (0, .ref o0), (1, .int a0), (2, .ref o_13)]) dX8_sum_34 rfl rfl rfl (by first | decide | omega) rfl ?_
    refine z_aload_n (n := 36) dX8_sum_35 rfl 1 rfl rfl ?_
    obtain ⟨c_30, h_29, c_28, hF⟩ := zc1_some hF
    obtain ⟨cc, hF, hcc⟩ := zpay_some hF
    refine z_payE hcc ?_
    refine z_cV (n := 39) (mc2 := (cc.1 + mE)) (ms2 := (cc.2 + wE)) (st := []) (C_X8_go htr c_28) dX8_sum_36 rfl (lw_V q975 q977 qs13 q132 q978) hcee_X8_go rfl (by first | decide | omega) hk_18 rfl rfl rfl (by first | exact Nat.le_of_ble_eq_true rfl | omega) (Nat.le_of_eq (Nat.add_comm _ _)) (Nat.le_of_eq (Nat.add_comm _ _)) ?_
    obtain ⟨cc, hF, hcc⟩ := zpay_some hF
    refine z_payE hcc ?_
    obtain ⟨hn_31, hF⟩ := zg_some hF
    obtain ⟨o_34, e_35, hF⟩ := zlet_ob hF
    obtain ⟨h_32, e_33, hF⟩ := zlet_ob hF
    refine z_newT (n := 42) dX8_sum_39 rfl zok13 ⟨_, rfl, rfl, q1310⟩ q1309 q142 hn_31 e_35 e_33 rfl ?_
    refine z_dup (n := 43) dX8_sum_42 rfl rfl ?_
    refine z_iload_n (n := 44) dX8_sum_43 rfl 0 rfl rfl ?_
    refine z_aload_n (n := 45) dX8_sum_44 rfl 3 rfl rfl ?_
    refine z_aload_n (n := 46) dX8_sum_45 rfl 1 rfl rfl ?_
    refine z_iload_n (n := 47) dX8_sum_46 rfl 2 rfl rfl ?_
    obtain ⟨n_36, hk_37, hF⟩ := zka_some hF
    obtain ⟨c_41, t_42, c_38, hF⟩ := zc1_some hF
    obtain ⟨s_39, h_40⟩ := t_42
    dsimp only [zn2] at hF
    obtain ⟨cc, hF, hcc⟩ := zpay_some hF
    refine z_payE hcc ?_
    rcases zsum_some hF with ⟨q_44, e_43, hF⟩ | ⟨w_45, e_43, hF⟩
    rotate_left
    · first | rw [e_43] at c_38 ⊢ | rw [e_43] at c_38
      obtain ⟨rfl, rfl⟩ := zpair hF
      refine z_cVx (n := 50) (mc2 := (((0, 0) : Nat × Nat).1 + mE)) (ms2 := (((0, 0) : Nat × Nat).2 + wE)) (st := [.ref o_13, .int x_27, .ref o_34, .ref o_34]) (C_X8_product htr hex c_38) dX8_sum_47 rfl (lw_V q1239 q1241 qs27 q132 q1242) hcee_X8_product rfl (by first | decide | omega) hk_37 rfl rfl rfl (by first | exact Nat.le_of_ble_eq_true rfl | omega) (Nat.le_of_eq (Nat.add_comm _ _)) (Nat.le_of_eq (Nat.add_comm _ _)) ?_
      exact z_out rfl (kq _ rfl)
    first | rw [e_43] at c_38 ⊢ | rw [e_43] at c_38
    refine z_cV (n := 50) (mc2 := (cc.1 + mE)) (ms2 := (cc.2 + wE)) (st := [.ref o_13, .int x_27, .ref o_34, .ref o_34]) (C_X8_product htr hex c_38) dX8_sum_47 rfl (lw_V q1239 q1241 qs27 q132 q1242) hcee_X8_product rfl (by first | decide | omega) hk_37 rfl rfl rfl (by first | exact Nat.le_of_ble_eq_true rfl | omega) (Nat.le_of_eq (Nat.add_comm _ _)) (Nat.le_of_eq (Nat.add_comm _ _)) ?_
    obtain ⟨o_46, hr_47, hF⟩ := zb1_some hF
    rw [hr_47]
    obtain ⟨c_50, h_49, c_48, hF⟩ := zc1_some hF
    obtain ⟨cc, hF, hcc⟩ := zpay_some hF
    refine z_payE hcc ?_
    refine z_cI (n := 53) (mc2 := (cc.1 + mE)) (ms2 := (cc.2 + wE)) (st := [.ref o_34]) (C_X15_init htr c_48) dX8_sum_50 rfl q1313 q142 q1311 q1312 rfl hcee_X15_init rfl (by first | decide | omega) rfl (by first | exact Nat.le_of_ble_eq_true rfl | omega) (Nat.le_of_eq (Nat.add_comm _ _)) (Nat.le_of_eq (Nat.add_comm _ _)) ?_
    refine z_astore_nS (n := 54) (lv' := [(2, .ref o_34), (3, .int x_27), (0, .ref o0), (1, .int a0)]) dX8_sum_53 rfl rfl (by first | decide | omega) rfl ?_
    refine z_goto (t := 6) dX8_sum_54 (by first | decide | omega) ?_
    refine z_sub [2, 3, 0] rfl ?_
    obtain ⟨rfl, rfl⟩ := zpair hF
    refine z_eq (Nat.zero_add _) (Nat.zero_add _) ?_
    exact kl o_34 h_49 rfl
  · replace hF := (if_neg hc).symm.trans hF
    refine z_aload_n (n := 17) dX8_sum_16 rfl 0 rfl rfl ?_
    obtain ⟨n_52, hk_51, hF⟩ := zka_some hF
    refine z_ldcwS (n := 20) (j := 64) dX8_sum_17 rfl zlit_X8_268 (by first | decide | omega) (znn hk_51) ?_
    obtain ⟨x_54, c_53, hF⟩ := zb1_some hF
    refine z_cV (n := 23) (mc2 := (cc.1 + mE)) (ms2 := (cc.2 + wE)) (st := []) (C_X8_is htr c_53) dX8_sum_20 rfl (lw_V q1078 q1080 qs15 q132 q1081) hcee_X8_is rfl (by first | decide | omega) hk_18 rfl rfl rfl (by first | exact Nat.le_of_ble_eq_true rfl | omega) (Nat.le_refl _) (Nat.le_refl _) ?_
    refine z_if_eq (n := 26) (t := 57) dX8_sum_23 rfl (by first | decide | omega) (fun hc => ?_) (fun hc => ?_)
    · replace hF := (if_pos hc).symm.trans hF
      refine z_sub [2] rfl ?_
      obtain ⟨rfl, rfl⟩ := zpair hF
      refine z_eq (Nat.zero_add _) (Nat.zero_add _) ?_
      exact kx o_13 h_14 rfl
    · replace hF := (if_neg hc).symm.trans hF
      refine z_aload_n (n := 27) dX8_sum_26 rfl 0 rfl rfl ?_
      obtain ⟨hb_55, hF⟩ := zg_some hF
      obtain ⟨o_56, hr_57, hF⟩ := zb1_some hF
      refine z_getRS (n := 30) dX8_sum_27 rfl zok7 fX8_11_7 rfl hk_18 (Or.inl (zbig hb_55)) hr_57 ?_
      refine z_iconst (n := 31) (v := 0) dX8_sum_30 rfl (by first | decide | omega) ?_
      obtain ⟨n_58, hk_59, hF⟩ := zka_some hF
      obtain ⟨x_61, c_60, hF⟩ := zb1_some hF
      refine z_cV (n := 34) (mc2 := (cc.1 + mE)) (ms2 := (cc.2 + wE)) (st := []) (C_J9_charAt htr c_60) dX8_sum_31 rfl (lw_V q1294 q1295 q1296 q116 q1297) hcee_J9_charAt rfl (by first | decide | omega) hk_59 rfl rfl rfl (by first | exact Nat.le_of_ble_eq_true rfl | omega) (Nat.le_refl _) (Nat.le_refl _) ?_
      refine z_istore_nE (n := 35) (lv' := [(3, .int x_61), (0, .ref o0), (1, .int a0), (2, .ref o_13)]) dX8_sum_34 rfl rfl rfl (by first | decide | omega) rfl ?_
      refine z_aload_n (n := 36) dX8_sum_35 rfl 1 rfl rfl ?_
      obtain ⟨c_64, h_63, c_62, hF⟩ := zc1_some hF
      obtain ⟨cc, hF, hcc⟩ := zpay_some hF
      refine z_payE hcc ?_
      refine z_cV (n := 39) (mc2 := (cc.1 + mE)) (ms2 := (cc.2 + wE)) (st := []) (C_X8_go htr c_62) dX8_sum_36 rfl (lw_V q975 q977 qs13 q132 q978) hcee_X8_go rfl (by first | decide | omega) hk_18 rfl rfl rfl (by first | exact Nat.le_of_ble_eq_true rfl | omega) (Nat.le_of_eq (Nat.add_comm _ _)) (Nat.le_of_eq (Nat.add_comm _ _)) ?_
      obtain ⟨cc, hF, hcc⟩ := zpay_some hF
      refine z_payE hcc ?_
      obtain ⟨hn_65, hF⟩ := zg_some hF
      obtain ⟨o_68, e_69, hF⟩ := zlet_ob hF
      obtain ⟨h_66, e_67, hF⟩ := zlet_ob hF
      refine z_newT (n := 42) dX8_sum_39 rfl zok13 ⟨_, rfl, rfl, q1310⟩ q1309 q142 hn_65 e_69 e_67 rfl ?_
      refine z_dup (n := 43) dX8_sum_42 rfl rfl ?_
      refine z_iload_n (n := 44) dX8_sum_43 rfl 0 rfl rfl ?_
      refine z_aload_n (n := 45) dX8_sum_44 rfl 3 rfl rfl ?_
      refine z_aload_n (n := 46) dX8_sum_45 rfl 1 rfl rfl ?_
      refine z_iload_n (n := 47) dX8_sum_46 rfl 2 rfl rfl ?_
      obtain ⟨n_70, hk_71, hF⟩ := zka_some hF
      obtain ⟨c_75, t_76, c_72, hF⟩ := zc1_some hF
      obtain ⟨s_73, h_74⟩ := t_76
      dsimp only [zn2] at hF
      obtain ⟨cc, hF, hcc⟩ := zpay_some hF
      refine z_payE hcc ?_
      rcases zsum_some hF with ⟨q_78, e_77, hF⟩ | ⟨w_79, e_77, hF⟩
      rotate_left
      · first | rw [e_77] at c_72 ⊢ | rw [e_77] at c_72
        obtain ⟨rfl, rfl⟩ := zpair hF
        refine z_cVx (n := 50) (mc2 := (((0, 0) : Nat × Nat).1 + mE)) (ms2 := (((0, 0) : Nat × Nat).2 + wE)) (st := [.ref o_13, .int x_61, .ref o_68, .ref o_68]) (C_X8_product htr hex c_72) dX8_sum_47 rfl (lw_V q1239 q1241 qs27 q132 q1242) hcee_X8_product rfl (by first | decide | omega) hk_71 rfl rfl rfl (by first | exact Nat.le_of_ble_eq_true rfl | omega) (Nat.le_of_eq (Nat.add_comm _ _)) (Nat.le_of_eq (Nat.add_comm _ _)) ?_
        exact z_out rfl (kq _ rfl)
      first | rw [e_77] at c_72 ⊢ | rw [e_77] at c_72
      refine z_cV (n := 50) (mc2 := (cc.1 + mE)) (ms2 := (cc.2 + wE)) (st := [.ref o_13, .int x_61, .ref o_68, .ref o_68]) (C_X8_product htr hex c_72) dX8_sum_47 rfl (lw_V q1239 q1241 qs27 q132 q1242) hcee_X8_product rfl (by first | decide | omega) hk_71 rfl rfl rfl (by first | exact Nat.le_of_ble_eq_true rfl | omega) (Nat.le_of_eq (Nat.add_comm _ _)) (Nat.le_of_eq (Nat.add_comm _ _)) ?_
      obtain ⟨o_80, hr_81, hF⟩ := zb1_some hF
      rw [hr_81]
      obtain ⟨c_84, h_83, c_82, hF⟩ := zc1_some hF
      obtain ⟨cc, hF, hcc⟩ := zpay_some hF
      refine z_payE hcc ?_
      refine z_cI (n := 53) (mc2 := (cc.1 + mE)) (ms2 := (cc.2 + wE)) (st := [.ref o_68]) (C_X15_init htr c_82) dX8_sum_50 rfl q1313 q142 q1311 q1312 rfl hcee_X15_init rfl (by first | decide | omega) rfl (by first | exact Nat.le_of_ble_eq_true rfl | omega) (Nat.le_of_eq (Nat.add_comm _ _)) (Nat.le_of_eq (Nat.add_comm _ _)) ?_
      refine z_astore_nS (n := 54) (lv' := [(2, .ref o_68), (3, .int x_61), (0, .ref o0), (1, .int a0)]) dX8_sum_53 rfl rfl (by first | decide | omega) rfl ?_
      refine z_goto (t := 6) dX8_sum_54 (by first | decide | omega) ?_
      refine z_sub [2, 3, 0] rfl ?_
      obtain ⟨rfl, rfl⟩ := zpair hF
      refine z_eq (Nat.zero_add _) (Nat.zero_add _) ?_
      exact kl o_68 h_83 rfl
set_option maxHeartbeats 1000000 in
theorem C_X8_sum {l : Launch} {G : zGt} (htr : l.stackTraces = false) {ex_ : Nat → Int32 → zSt → Option ((Nat × Nat) × ((Option Nat ⊕ (String × Nat)) × zSt))} {o0 : Nat} {a0 : Int32} {fb lb : Nat} (hex : ∀ (o : Nat) (a : Int32) (h : zSt) (cc : Nat × Nat) (r : (Option Nat ⊕ (String × Nat)) × zSt), ex_ o a h = some (cc, r) → zMet l G yX8_expr (ws_ yX8_expr cX8_expr 3 (some (.object "SableCrown$Expr"))) fb lb cc.1 cc.2 [.ref o, .int a] (hK h) (jF h) (hI h) (hL h) (zQe (zor r.1) (hK r.2) (jF r.2) (hI r.2) (hL r.2))) {h : zSt} {cc : Nat × Nat} {r : (Option Nat ⊕ (String × Nat)) × zSt} (hF : F_X8_sum ex_ o0 a0 h = some (cc, r)) : zMet l G yX8_sum (ws_ yX8_sum cX8_sum 4 (some (.object "SableCrown$Expr"))) (fb + 13) (lb + 261) (cc.1 + 0) (cc.2 + 0) [.ref o0, .int a0] (hK h) (jF h) (hI h) (hL h) (zQe (zor r.1) (hK r.2) (jF r.2) (hI r.2) (hL r.2)) := by
  refine zMet.of (by decide +kernel) htr (by first | exact Nat.le_of_ble_eq_true rfl | omega) ?_
  change zW l G MX8_sum (fb + 13) (lb + 261) (cc.1 + 0) (cc.2 + 0) 0 [(0, .ref o0), (1, .int a0)] [] (hK h) (jF h) (hI h) (hL h) (zQe (zor r.1) (hK r.2) (jF r.2) (hI r.2) (hL r.2))
  unfold F_X8_sum at hF
  refine z_aload_n (n := 1) dX8_sum_0 rfl 0 rfl rfl ?_
  refine z_iload_n (n := 2) dX8_sum_1 rfl 1 rfl rfl ?_
  obtain ⟨n_1, hk_2, hF⟩ := zka_some hF
  obtain ⟨c_6, t_7, c_3, hF⟩ := zc1_some hF
  obtain ⟨s_4, h_5⟩ := t_7
  dsimp only [zn2] at hF
  obtain ⟨cc, hF, hcc⟩ := zpay_some hF
  refine z_payE hcc ?_
  rcases zsum_some hF with ⟨q_9, e_8, hF⟩ | ⟨w_10, e_8, hF⟩
  rotate_left
  · first | rw [e_8] at c_3 ⊢ | rw [e_8] at c_3
    obtain ⟨rfl, rfl⟩ := zpair hF
    refine z_cVx (n := 5) (mc2 := (((0, 0) : Nat × Nat).1 + 0)) (ms2 := (((0, 0) : Nat × Nat).2 + 0)) (st := []) (C_X8_product htr hex c_3) dX8_sum_2 rfl (lw_V q1239 q1241 qs27 q132 q1242) hcee_X8_product rfl (by first | decide | omega) hk_2 rfl rfl rfl (by first | exact Nat.le_of_ble_eq_true rfl | omega) (Nat.le_of_eq (Nat.add_comm _ _)) (Nat.le_of_eq (Nat.add_comm _ _)) ?_
    exact z_out rfl ⟨rfl, rfl, rfl, rfl, rfl⟩
  first | rw [e_8] at c_3 ⊢ | rw [e_8] at c_3
  refine z_cV (n := 5) (mc2 := (cc.1 + 0)) (ms2 := (cc.2 + 0)) (st := []) (C_X8_product htr hex c_3) dX8_sum_2 rfl (lw_V q1239 q1241 qs27 q132 q1242) hcee_X8_product rfl (by first | decide | omega) hk_2 rfl rfl rfl (by first | exact Nat.le_of_ble_eq_true rfl | omega) (Nat.le_of_eq (Nat.add_comm _ _)) (Nat.le_of_eq (Nat.add_comm _ _)) ?_
  obtain ⟨o_11, hr_12, hF⟩ := zb1_some hF
  rw [hr_12]
  refine z_astore_nS (n := 6) (lv' := [(2, .ref o_11), (0, .ref o0), (1, .int a0)]) dX8_sum_5 rfl rfl (by first | decide | omega) rfl ?_
  refine z_sub [1, 2, 0] rfl ?_
  rcases zcs_some hF with ⟨c_88, t_89, e_87, hF⟩ | ⟨c_88, t_89, e_87, hF⟩
  · skip
    obtain ⟨cc, hF, hcc⟩ := zpay_some hF
    obtain ⟨o_85, h_86⟩ := t_89
    dsimp only [zn2] at hF
    have H_90 : zW l G MX8_sum (fb + 13) (lb + 261) (cc.1 + 0) (cc.2 + 0) 57 [(2, .ref o_85)] [] (hK h_86) (jF h_86) (hI h_86) (hL h_86) (zQe (zor r.1) (hK r.2) (jF r.2) (hI r.2) (hL r.2)) := by
      refine z_aload_n (n := 58) dX8_sum_57 rfl 0 rfl rfl ?_
      obtain ⟨rfl, rfl⟩ := zpair hF
      exact z_aret (r := (some o_85)) dX8_sum_58 rfl (Or.inl ⟨_, rfl⟩) ⟨rfl, rfl, rfl, rfl, rfl⟩
    refine z_payE hcc ?_
    refine zloopC_ind (P := fun (s : Nat × zSt) m w => zW l G MX8_sum (fb + 13) (lb + 261) (m + (cc.1 + 0)) (w + (cc.2 + 0)) 6 [(0, .ref o0), (1, .int a0), (2, .ref s.1)] [] (hK s.2) (jF s.2) (hI s.2) (hL s.2) (zQe (zor r.1) (hK r.2) (jF r.2) (hI r.2) (hL r.2))) (fun s c r E9 W9 hb kl kr => ?_) e_87
    refine z_eq (Nat.add_assoc _ _ _) (Nat.add_assoc _ _ _) ?_
    exact W_X8_sum_L6 (ex_ := ex_) (o0 := o0) (a0 := a0) htr hex hb (fun z0 z1 e => kl _ e) (fun y0 y1 e => by obtain ⟨h1, rfl, rfl⟩ := kr _ e; cases h1; exact z_eq (Nat.zero_add _) (Nat.zero_add _) H_90) (fun z e => by have h1 := (kr _ e).1; cases h1)
  · skip
    obtain ⟨cc, hF, hcc⟩ := zpay_some hF
    obtain ⟨h9, hq⟩ := zpair hF
    subst h9
    refine z_payE hcc ?_
    refine zloopC_ind (P := fun (s : Nat × zSt) m w => zW l G MX8_sum (fb + 13) (lb + 261) (m + (((0, 0) : Nat × Nat).1 + 0)) (w + (((0, 0) : Nat × Nat).2 + 0)) 6 [(0, .ref o0), (1, .int a0), (2, .ref s.1)] [] (hK s.2) (jF s.2) (hI s.2) (hL s.2) (zQe (zor r.1) (hK r.2) (jF r.2) (hI r.2) (hL r.2))) (fun s c r E9 W9 hb kl kr => ?_) e_87
    refine z_eq (Nat.add_assoc _ _ _) (Nat.add_assoc _ _ _) ?_
    exact W_X8_sum_L6 (ex_ := ex_) (o0 := o0) (a0 := a0) htr hex hb (fun z0 z1 e => kl _ e) (fun y0 y1 e => by have h1 := (kr _ e).1; cases h1) (fun z e => by have h1 := (kr _ e).1; cases h1; subst hq; exact ⟨rfl, rfl, rfl, rfl, rfl⟩)
theorem hcee_X16_init : zCee yX16_init RX16 1 := ⟨rfl, by decide +kernel, by decide +kernel, by decide +kernel⟩
theorem hcee_X8_sum : zCee yX8_sum RX8 1 := ⟨rfl, by decide +kernel, by decide +kernel, by decide +kernel⟩
theorem zlit_X8_246 : ((RX8, 246, "not", 56) : String × Nat × String × Nat) ∈ zLit := List.mem_of_getElem? (i := 13) rfl
theorem zlit_X8_250 : ((RX8, 250, "<", 58) : String × Nat × String × Nat) ∈ zLit := List.mem_of_getElem? (i := 14) rfl
theorem zlit_X8_252 : ((RX8, 252, "=", 60) : String × Nat × String × Nat) ∈ zLit := List.mem_of_getElem? (i := 15) rfl
abbrev MX8_not : zM := (RX8, cX8_not, 5, (some (.object "SableCrown$Expr")), "not", [])
noncomputable def F_X8_not_L2 (o0 : Nat) (v2_1 : Int32) (h_2 : zSt) : Option ((Nat × Nat) × ((Int32 × zSt) ⊕ ((Int32 × zSt) ⊕ ((Option Nat ⊕ (String × Nat)) × zSt)))) := zka (hK h_2) 56 15 (fun n_4 => zka (hK h_2) o0 7 (fun n_5 => zb1 (F_X8_is (hK h_2) (jF h_2) o0 56 (hI h_2)) (fun x_8 => if x_8 = 0 then some ((0, 0), .inr (.inl (v2_1, h_2))) else zlet (fun (w_9 : Int32) => zc1 (F_X8_check o0 w_9 2 h_2) (fun c_16 => zn2 (fun s_14 h_15 => zpay c_16 (zsum s_14 (fun x_19 => zka (hK h_15) o0 7 (fun n_21 => zc1 (F_X8_go o0 h_15) (fun c_25 h_24 => zpay c_25 (zlet (v2_1 + 1) (fun v2_26 => some ((0, 0), .inl (v2_26, h_24))))))) (fun w_20 => some ((0, 0), .inr (.inr (.inr w_20, h_15)))))))) (fun k_10 => if 6 ≤ v2_1 then k_10 0 else k_10 1))))
noncomputable def F_X8_not_L91 (v2_78 : Int32) (o_79 : Nat) (h_80 : zSt) : Option ((Nat × Nat) × ((Int32 × Nat × zSt) ⊕ (Nat × zSt))) := if v2_78 ≤ 0 then some ((0, 0), .inr ((o_79, h_80))) else zpay (1, 1) (zg (zfree h_80) (zlet (hN h_80) (fun o_84 => zlet (znA h_80 14 0) (fun h_82 => zc1 (F_X16_init o_84 o_79 h_82) (fun c_88 h_87 => zpay c_88 (zlet (v2_78 + (-1)) (fun v2_89 => some ((0, 0), .inl (v2_89, o_84, h_87)))))))))
noncomputable def F_X8_not_L91_1 (v2_101 : Int32) (o_102 : Nat) (h_103 : zSt) : Option ((Nat × Nat) × ((Int32 × Nat × zSt) ⊕ (Nat × zSt))) := if v2_101 ≤ 0 then some ((0, 0), .inr ((o_102, h_103))) else zpay (1, 1) (zg (zfree h_103) (zlet (hN h_103) (fun o_107 => zlet (znA h_103 14 0) (fun h_105 => zc1 (F_X16_init o_107 o_102 h_105) (fun c_111 h_110 => zpay c_111 (zlet (v2_101 + (-1)) (fun v2_112 => some ((0, 0), .inl (v2_112, o_107, h_110)))))))))
noncomputable def F_X8_not_L91_2 (v2_150 : Int32) (o_151 : Nat) (h_152 : zSt) : Option ((Nat × Nat) × ((Int32 × Nat × zSt) ⊕ (Nat × zSt))) := if v2_150 ≤ 0 then some ((0, 0), .inr ((o_151, h_152))) else zpay (1, 1) (zg (zfree h_152) (zlet (hN h_152) (fun o_156 => zlet (znA h_152 14 0) (fun h_154 => zc1 (F_X16_init o_156 o_151 h_154) (fun c_160 h_159 => zpay c_160 (zlet (v2_150 + (-1)) (fun v2_161 => some ((0, 0), .inl (v2_161, o_156, h_159)))))))))
noncomputable def F_X8_not (ex_ : Nat → Int32 → zSt → Option ((Nat × Nat) × ((Option Nat ⊕ (String × Nat)) × zSt))) (o0 : Nat) (a0 : Int32) (h : zSt) : Option ((Nat × Nat) × ((Option Nat ⊕ (String × Nat)) × zSt)) := zcs (zloopC (fun s : Int32 × zSt => F_X8_not_L2 o0 s.1 s.2) (0, h)) (fun c_170 t_171 => zpay c_170 ((zn2 (fun v2_28 h_29 => zka (hK h_29) o0 7 (fun n_30 => zc1 (F_X8_sum ex_ o0 a0 h_29) (fun c_35 => zn2 (fun s_33 h_34 => zpay c_35 (zsum s_33 (fun q_38 => zb1 q_38 (fun o_40 => zka (hK h_34) 58 15 (fun n_43 => zka (hK h_34) o0 7 (fun n_44 => zb1 (F_X8_is (hK h_34) (jF h_34) o0 58 (hI h_34)) (fun x_47 => if ¬ x_47 = 0 then zg (decide (600 ≤ o0)) (zb1 ((jF h_34) o0 7) (fun o_49 => zka (hK h_34) o_49 15 (fun n_51 => zb1 (F_J9_charAt (hK h_34) (jF h_34) o_49 0 (hI h_34)) (fun x_54 => zc1 (F_X8_go o0 h_34) (fun c_57 h_56 => zpay c_57 (zpay (1, 3) (zg (zfree h_56) (zlet (hN h_56) (fun o_61 => zlet (znA h_56 13 0) (fun h_59 => zka (hK h_59) o0 7 (fun n_63 => zc1 (F_X8_sum ex_ o0 a0 h_59) (fun c_68 => zn2 (fun s_66 h_67 => zpay c_68 (zsum s_66 (fun q_71 => zb1 q_71 (fun o_73 => zc1 (F_X15_init o_61 x_54 o_40 o_73 h_67) (fun c_77 h_76 => zpay c_77 (zc1 (zloopC (fun s : Int32 × Nat × zSt => F_X8_not_L91 s.1 s.2.1 s.2.2) (v2_28, o_61, h_76)) (fun c_94 t_95 => zpay c_94 ((zn2 (fun o_91 h_92 => some ((0, 0), (.inl (some o_91), h_92)))) t_95)))))) (fun w_72 => some ((0, 0), (.inr w_72, h_67))))))))))))))))) else zka (hK h_34) 60 15 (fun n_98 => zb1 (F_X8_is (hK h_34) (jF h_34) o0 60 (hI h_34)) (fun x_100 => if x_100 = 0 then zc1 (zloopC (fun s : Int32 × Nat × zSt => F_X8_not_L91_1 s.1 s.2.1 s.2.2) (v2_28, o_40, h_34)) (fun c_117 t_118 => zpay c_117 ((zn2 (fun o_114 h_115 => some ((0, 0), (.inl (some o_114), h_115)))) t_118)) else zg (decide (600 ≤ o0)) (zb1 ((jF h_34) o0 7) (fun o_121 => zka (hK h_34) o_121 15 (fun n_123 => zb1 (F_J9_charAt (hK h_34) (jF h_34) o_121 0 (hI h_34)) (fun x_126 => zc1 (F_X8_go o0 h_34) (fun c_129 h_128 => zpay c_129 (zpay (1, 3) (zg (zfree h_128) (zlet (hN h_128) (fun o_133 => zlet (znA h_128 13 0) (fun h_131 => zka (hK h_131) o0 7 (fun n_135 => zc1 (F_X8_sum ex_ o0 a0 h_131) (fun c_140 => zn2 (fun s_138 h_139 => zpay c_140 (zsum s_138 (fun q_143 => zb1 q_143 (fun o_145 => zc1 (F_X15_init o_133 x_126 o_40 o_145 h_139) (fun c_149 h_148 => zpay c_149 (zc1 (zloopC (fun s : Int32 × Nat × zSt => F_X8_not_L91_2 s.1 s.2.1 s.2.2) (v2_28, o_133, h_148)) (fun c_166 t_167 => zpay c_166 ((zn2 (fun o_163 h_164 => some ((0, 0), (.inl (some o_163), h_164)))) t_167)))))) (fun w_144 => some ((0, 0), (.inr w_144, h_139)))))))))))))))))))))))) (fun w_39 => some ((0, 0), (.inr w_39, h_34))))))))) t_171)) (fun c_170 z_173 => zpay c_170 (some ((0, 0), z_173)))
set_option maxHeartbeats 1000000 in
theorem W_X8_not_L2 {l : Launch} {G : zGt} (htr : l.stackTraces = false) {Q : zQt} {mE wE : Nat} {cc : Nat × Nat} {o0 : Nat} {a0 : Int32} {ex_ : Nat → Int32 → zSt → Option ((Nat × Nat) × ((Option Nat ⊕ (String × Nat)) × zSt))} {v2_1 : Int32} {h_2 : zSt} {fb lb : Nat} (hex : ∀ (o : Nat) (a : Int32) (h : zSt) (cc : Nat × Nat) (r : (Option Nat ⊕ (String × Nat)) × zSt), ex_ o a h = some (cc, r) → zMet l G yX8_expr (ws_ yX8_expr cX8_expr 3 (some (.object "SableCrown$Expr"))) fb lb cc.1 cc.2 [.ref o, .int a] (hK h) (jF h) (hI h) (hL h) (zQe (zor r.1) (hK r.2) (jF r.2) (hI r.2) (hL r.2))) {r : (Int32 × zSt) ⊕ ((Int32 × zSt) ⊕ ((Option Nat ⊕ (String × Nat)) × zSt))} (hF : F_X8_not_L2 o0 v2_1 h_2 = some (cc, r)) (kl : ∀ (z0 : Int32) (z1 : zSt), r = .inl (z0, z1) → zW l G MX8_not (fb + 14) (lb + 284) mE wE 2 [(0, .ref o0), (1, .int a0), (2, .int z0)] [] (hK z1) (jF z1) (hI z1) (hL z1) Q) (kx : ∀ (y0 : Int32) (y1 : zSt), r = .inr (.inl (y0, y1)) → zW l G MX8_not (fb + 14) (lb + 284) mE wE 37 [(0, .ref o0), (1, .int a0), (2, .int y0)] [] (hK y1) (jF y1) (hI y1) (hL y1) Q) (kq : ∀ z : (Option Nat ⊕ (String × Nat)) × zSt, r = .inr (.inr z) → Q (zor z.1) (hK z.2) (jF z.2) (hI z.2) (hL z.2)) : zW l G MX8_not (fb + 14) (lb + 284) (cc.1 + mE) (cc.2 + wE) 2 [(0, .ref o0), (1, .int a0), (2, .int v2_1)] [] (hK h_2) (jF h_2) (hI h_2) (hL h_2) Q := by
  unfold F_X8_not_L2 at hF
  refine z_aload_n (n := 3) dX8_not_2 rfl 0 rfl rfl ?_
  obtain ⟨n_4, hk_3, hF⟩ := zka_some hF
  refine z_ldcS (n := 5) (j := 56) dX8_not_3 rfl zlit_X8_246 (by first | decide | omega) (znn hk_3) ?_
  obtain ⟨n_5, hk_6, hF⟩ := zka_some hF
  obtain ⟨x_8, c_7, hF⟩ := zb1_some hF
  refine z_cV (n := 8) (mc2 := (cc.1 + mE)) (ms2 := (cc.2 + wE)) (st := []) (C_X8_is htr c_7) dX8_not_5 rfl (lw_V q1078 q1080 qs15 q132 q1081) hcee_X8_is rfl (by first | decide | omega) hk_6 rfl rfl rfl (by first | exact Nat.le_of_ble_eq_true rfl | omega) (Nat.le_refl _) (Nat.le_refl _) ?_
  refine z_if_eq (n := 11) (t := 37) dX8_not_8 rfl (by first | decide | omega) (fun hc => ?_) (fun hc => ?_)
  · replace hF := (if_pos hc).symm.trans hF
    obtain ⟨rfl, rfl⟩ := zpair hF
    refine z_eq (Nat.zero_add _) (Nat.zero_add _) ?_
    exact kx v2_1 h_2 rfl
  · replace hF := (if_neg hc).symm.trans hF
    refine z_aload_n (n := 12) dX8_not_11 rfl 0 rfl rfl ?_
    refine z_iload_n (n := 13) dX8_not_12 rfl 2 rfl rfl ?_
    refine z_bipush (n := 15) (v := 6) dX8_not_13 rfl (by first | decide | omega) ?_
    obtain ⟨k_10, e_11, hF⟩ := zlet_ob hF
    have H_12 : ∀ (w_9 : Int32) (cc : Nat × Nat), k_10 w_9 = some (cc, r) → zW l G MX8_not (fb + 14) (lb + 284) (cc.1 + mE) (cc.2 + wE) 23 [(0, .ref o0), (1, .int a0), (2, .int v2_1)] [.int w_9, .ref o0] (hK h_2) (jF h_2) (hI h_2) (hL h_2) Q := by
      intro w_9 cc hF
      subst e_11
      dsimp only at hF
      refine z_iconst (n := 24) (v := 2) dX8_not_23 rfl (by first | decide | omega) ?_
      obtain ⟨c_16, t_17, c_13, hF⟩ := zc1_some hF
      obtain ⟨s_14, h_15⟩ := t_17
      dsimp only [zn2] at hF
      obtain ⟨cc, hF, hcc⟩ := zpay_some hF
      refine z_payE hcc ?_
      rcases zsum_some hF with ⟨x_19, e_18, hF⟩ | ⟨w_20, e_18, hF⟩
      rotate_left
      · first | rw [e_18] at c_13 ⊢ | rw [e_18] at c_13
        obtain ⟨rfl, rfl⟩ := zpair hF
        refine z_cVx (n := 27) (mc2 := (((0, 0) : Nat × Nat).1 + mE)) (ms2 := (((0, 0) : Nat × Nat).2 + wE)) (st := []) (C_X8_check htr c_13) dX8_not_24 rfl (lw_V q1090 q1092 qs16 q132 q1093) hcee_X8_check rfl (by first | decide | omega) hk_6 rfl rfl rfl (by first | exact Nat.le_of_ble_eq_true rfl | omega) (Nat.le_of_eq (Nat.add_comm _ _)) (Nat.le_of_eq (Nat.add_comm _ _)) ?_
        exact z_out rfl (kq _ rfl)
      first | rw [e_18] at c_13 ⊢ | rw [e_18] at c_13
      refine z_cV (n := 27) (mc2 := (cc.1 + mE)) (ms2 := (cc.2 + wE)) (st := []) (C_X8_check htr c_13) dX8_not_24 rfl (lw_V q1090 q1092 qs16 q132 q1093) hcee_X8_check rfl (by first | decide | omega) hk_6 rfl rfl rfl (by first | exact Nat.le_of_ble_eq_true rfl | omega) (Nat.le_of_eq (Nat.add_comm _ _)) (Nat.le_of_eq (Nat.add_comm _ _)) ?_
      refine z_aload_n (n := 28) dX8_not_27 rfl 0 rfl rfl ?_
      obtain ⟨n_21, hk_22, hF⟩ := zka_some hF
      obtain ⟨c_25, h_24, c_23, hF⟩ := zc1_some hF
      obtain ⟨cc, hF, hcc⟩ := zpay_some hF
      refine z_payE hcc ?_
      refine z_cV (n := 31) (mc2 := (cc.1 + mE)) (ms2 := (cc.2 + wE)) (st := []) (C_X8_go htr c_23) dX8_not_28 rfl (lw_V q975 q977 qs13 q132 q978) hcee_X8_go rfl (by first | decide | omega) hk_22 rfl rfl rfl (by first | exact Nat.le_of_ble_eq_true rfl | omega) (Nat.le_of_eq (Nat.add_comm _ _)) (Nat.le_of_eq (Nat.add_comm _ _)) ?_
      obtain ⟨v2_26, e_27, hF⟩ := zlet_ob hF
      refine z_iincE (n := 34) (w := 1) (v := v2_26) (lv' := [(2, .int v2_26), (0, .ref o0), (1, .int a0)]) dX8_not_31 rfl 2 rfl (by first | decide | omega) e_27 (by first | decide | omega) rfl ?_
      refine z_goto (t := 2) dX8_not_34 (by first | decide | omega) ?_
      refine z_sub [1, 2, 0] rfl ?_
      obtain ⟨rfl, rfl⟩ := zpair hF
      refine z_eq (Nat.zero_add _) (Nat.zero_add _) ?_
      exact kl v2_26 h_24 rfl
    clear e_11
    refine z_icmp_ge (n := 18) (t := 22) dX8_not_15 rfl (by first | decide | omega) (fun hc => ?_) (fun hc => ?_)
    · replace hF := (if_pos hc).symm.trans hF
      refine z_iconst (n := 23) (v := 0) dX8_not_22 rfl (by first | decide | omega) ?_
      exact H_12 0 _ hF
    · replace hF := (if_neg hc).symm.trans hF
      refine z_iconst (n := 19) (v := 1) dX8_not_18 rfl (by first | decide | omega) ?_
      refine z_goto (t := 23) dX8_not_19 (by first | decide | omega) ?_
      exact H_12 1 _ hF
set_option maxHeartbeats 1000000 in
theorem W_X8_not_L91 {l : Launch} {G : zGt} (htr : l.stackTraces = false) {Q : zQt} {mE wE : Nat} {cc : Nat × Nat} {ex_ : Nat → Int32 → zSt → Option ((Nat × Nat) × ((Option Nat ⊕ (String × Nat)) × zSt))} {o0 : Nat} {a0 : Int32} {v2_78 : Int32} {o_79 : Nat} {h_80 : zSt} {fb lb : Nat} (hex : ∀ (o : Nat) (a : Int32) (h : zSt) (cc : Nat × Nat) (r : (Option Nat ⊕ (String × Nat)) × zSt), ex_ o a h = some (cc, r) → zMet l G yX8_expr (ws_ yX8_expr cX8_expr 3 (some (.object "SableCrown$Expr"))) fb lb cc.1 cc.2 [.ref o, .int a] (hK h) (jF h) (hI h) (hL h) (zQe (zor r.1) (hK r.2) (jF r.2) (hI r.2) (hL r.2))) {r : (Int32 × Nat × zSt) ⊕ (Nat × zSt)} (hF : F_X8_not_L91 v2_78 o_79 h_80 = some (cc, r)) (kl : ∀ (z0 : Int32) (z1 : Nat) (z2 : zSt), r = .inl (z0, z1, z2) → zW l G MX8_not (fb + 14) (lb + 284) mE wE 91 [(2, .int z0), (3, .ref z1)] [] (hK z2) (jF z2) (hI z2) (hL z2) Q) (kx : ∀ (y0 : Nat) (y1 : zSt), r = .inr (y0, y1) → zW l G MX8_not (fb + 14) (lb + 284) mE wE 110 [(3, .ref y0)] [] (hK y1) (jF y1) (hI y1) (hL y1) Q)  : zW l G MX8_not (fb + 14) (lb + 284) (cc.1 + mE) (cc.2 + wE) 91 [(2, .int v2_78), (3, .ref o_79)] [] (hK h_80) (jF h_80) (hI h_80) (hL h_80) Q := by
  unfold F_X8_not_L91 at hF
  refine z_iload_n (n := 92) dX8_not_91 rfl 0 rfl rfl ?_
  refine z_if_le (n := 95) (t := 110) dX8_not_92 rfl (by first | decide | omega) (fun hc => ?_) (fun hc => ?_)
  · replace hF := (if_pos hc).symm.trans hF
    refine z_sub [1] rfl ?_
    obtain ⟨rfl, rfl⟩ := zpair hF
    refine z_eq (Nat.zero_add _) (Nat.zero_add _) ?_
    exact kx o_79 h_80 rfl
  · replace hF := (if_neg hc).symm.trans hF
    obtain ⟨cc, hF, hcc⟩ := zpay_some hF
    refine z_payE hcc ?_
    obtain ⟨hn_81, hF⟩ := zg_some hF
    obtain ⟨o_84, e_85, hF⟩ := zlet_ob hF
    obtain ⟨h_82, e_83, hF⟩ := zlet_ob hF
    refine z_newT (n := 98) dX8_not_95 rfl zok14 ⟨_, rfl, rfl, q1330⟩ q1329 q143 hn_81 e_85 e_83 rfl ?_
    refine z_dup (n := 99) dX8_not_98 rfl rfl ?_
    refine z_aload_n (n := 100) dX8_not_99 rfl 1 rfl rfl ?_
    obtain ⟨c_88, h_87, c_86, hF⟩ := zc1_some hF
    obtain ⟨cc, hF, hcc⟩ := zpay_some hF
    refine z_payE hcc ?_
    refine z_cI (n := 103) (mc2 := (cc.1 + mE)) (ms2 := (cc.2 + wE)) (st := [.ref o_84]) (C_X16_init htr c_86) dX8_not_100 rfl q1333 q143 q1331 q1332 rfl hcee_X16_init rfl (by first | decide | omega) rfl (by first | exact Nat.le_of_ble_eq_true rfl | omega) (Nat.le_of_eq (Nat.add_comm _ _)) (Nat.le_of_eq (Nat.add_comm _ _)) ?_
    refine z_astore_nS (n := 104) (lv' := [(3, .ref o_84), (2, .int v2_78)]) dX8_not_103 rfl rfl (by first | decide | omega) rfl ?_
    obtain ⟨v2_89, e_90, hF⟩ := zlet_ob hF
    refine z_iincE (n := 107) (w := (-1)) (v := v2_89) (lv' := [(2, .int v2_89), (3, .ref o_84)]) dX8_not_104 rfl 1 rfl (by first | decide | omega) e_90 (by first | decide | omega) rfl ?_
    refine z_goto (t := 91) dX8_not_107 (by first | decide | omega) ?_
    obtain ⟨rfl, rfl⟩ := zpair hF
    refine z_eq (Nat.zero_add _) (Nat.zero_add _) ?_
    exact kl v2_89 o_84 h_87 rfl
set_option maxHeartbeats 1000000 in
theorem W_X8_not_L91_1 {l : Launch} {G : zGt} (htr : l.stackTraces = false) {Q : zQt} {mE wE : Nat} {cc : Nat × Nat} {ex_ : Nat → Int32 → zSt → Option ((Nat × Nat) × ((Option Nat ⊕ (String × Nat)) × zSt))} {o0 : Nat} {a0 : Int32} {v2_101 : Int32} {o_102 : Nat} {h_103 : zSt} {fb lb : Nat} (hex : ∀ (o : Nat) (a : Int32) (h : zSt) (cc : Nat × Nat) (r : (Option Nat ⊕ (String × Nat)) × zSt), ex_ o a h = some (cc, r) → zMet l G yX8_expr (ws_ yX8_expr cX8_expr 3 (some (.object "SableCrown$Expr"))) fb lb cc.1 cc.2 [.ref o, .int a] (hK h) (jF h) (hI h) (hL h) (zQe (zor r.1) (hK r.2) (jF r.2) (hI r.2) (hL r.2))) {r : (Int32 × Nat × zSt) ⊕ (Nat × zSt)} (hF : F_X8_not_L91_1 v2_101 o_102 h_103 = some (cc, r)) (kl : ∀ (z0 : Int32) (z1 : Nat) (z2 : zSt), r = .inl (z0, z1, z2) → zW l G MX8_not (fb + 14) (lb + 284) mE wE 91 [(2, .int z0), (3, .ref z1)] [] (hK z2) (jF z2) (hI z2) (hL z2) Q) (kx : ∀ (y0 : Nat) (y1 : zSt), r = .inr (y0, y1) → zW l G MX8_not (fb + 14) (lb + 284) mE wE 110 [(3, .ref y0)] [] (hK y1) (jF y1) (hI y1) (hL y1) Q)  : zW l G MX8_not (fb + 14) (lb + 284) (cc.1 + mE) (cc.2 + wE) 91 [(2, .int v2_101), (3, .ref o_102)] [] (hK h_103) (jF h_103) (hI h_103) (hL h_103) Q := by
  unfold F_X8_not_L91_1 at hF
  refine z_iload_n (n := 92) dX8_not_91 rfl 0 rfl rfl ?_
  refine z_if_le (n := 95) (t := 110) dX8_not_92 rfl (by first | decide | omega) (fun hc => ?_) (fun hc => ?_)
  · replace hF := (if_pos hc).symm.trans hF
    refine z_sub [1] rfl ?_
    obtain ⟨rfl, rfl⟩ := zpair hF
    refine z_eq (Nat.zero_add _) (Nat.zero_add _) ?_
    exact kx o_102 h_103 rfl
  · replace hF := (if_neg hc).symm.trans hF
    obtain ⟨cc, hF, hcc⟩ := zpay_some hF
    refine z_payE hcc ?_
    obtain ⟨hn_104, hF⟩ := zg_some hF
    obtain ⟨o_107, e_108, hF⟩ := zlet_ob hF
    obtain ⟨h_105, e_106, hF⟩ := zlet_ob hF
    refine z_newT (n := 98) dX8_not_95 rfl zok14 ⟨_, rfl, rfl, q1330⟩ q1329 q143 hn_104 e_108 e_106 rfl ?_
    refine z_dup (n := 99) dX8_not_98 rfl rfl ?_
    refine z_aload_n (n := 100) dX8_not_99 rfl 1 rfl rfl ?_
    obtain ⟨c_111, h_110, c_109, hF⟩ := zc1_some hF
    obtain ⟨cc, hF, hcc⟩ := zpay_some hF
    refine z_payE hcc ?_
    refine z_cI (n := 103) (mc2 := (cc.1 + mE)) (ms2 := (cc.2 + wE)) (st := [.ref o_107]) (C_X16_init htr c_109) dX8_not_100 rfl q1333 q143 q1331 q1332 rfl hcee_X16_init rfl (by first | decide | omega) rfl (by first | exact Nat.le_of_ble_eq_true rfl | omega) (Nat.le_of_eq (Nat.add_comm _ _)) (Nat.le_of_eq (Nat.add_comm _ _)) ?_
    refine z_astore_nS (n := 104) (lv' := [(3, .ref o_107), (2, .int v2_101)]) dX8_not_103 rfl rfl (by first | decide | omega) rfl ?_
    obtain ⟨v2_112, e_113, hF⟩ := zlet_ob hF
    refine z_iincE (n := 107) (w := (-1)) (v := v2_112) (lv' := [(2, .int v2_112), (3, .ref o_107)]) dX8_not_104 rfl 1 rfl (by first | decide | omega) e_113 (by first | decide | omega) rfl ?_
    refine z_goto (t := 91) dX8_not_107 (by first | decide | omega) ?_
    obtain ⟨rfl, rfl⟩ := zpair hF
    refine z_eq (Nat.zero_add _) (Nat.zero_add _) ?_
    exact kl v2_112 o_107 h_110 rfl
set_option maxHeartbeats 1000000 in
theorem W_X8_not_L91_2 {l : Launch} {G : zGt} (htr : l.stackTraces = false) {Q : zQt} {mE wE : Nat} {cc : Nat × Nat} {ex_ : Nat → Int32 → zSt → Option ((Nat × Nat) × ((Option Nat ⊕ (String × Nat)) × zSt))} {o0 : Nat} {a0 : Int32} {v2_150 : Int32} {o_151 : Nat} {h_152 : zSt} {fb lb : Nat} (hex : ∀ (o : Nat) (a : Int32) (h : zSt) (cc : Nat × Nat) (r : (Option Nat ⊕ (String × Nat)) × zSt), ex_ o a h = some (cc, r) → zMet l G yX8_expr (ws_ yX8_expr cX8_expr 3 (some (.object "SableCrown$Expr"))) fb lb cc.1 cc.2 [.ref o, .int a] (hK h) (jF h) (hI h) (hL h) (zQe (zor r.1) (hK r.2) (jF r.2) (hI r.2) (hL r.2))) {r : (Int32 × Nat × zSt) ⊕ (Nat × zSt)} (hF : F_X8_not_L91_2 v2_150 o_151 h_152 = some (cc, r)) (kl : ∀ (z0 : Int32) (z1 : Nat) (z2 : zSt), r = .inl (z0, z1, z2) → zW l G MX8_not (fb + 14) (lb + 284) mE wE 91 [(2, .int z0), (3, .ref z1)] [] (hK z2) (jF z2) (hI z2) (hL z2) Q) (kx : ∀ (y0 : Nat) (y1 : zSt), r = .inr (y0, y1) → zW l G MX8_not (fb + 14) (lb + 284) mE wE 110 [(3, .ref y0)] [] (hK y1) (jF y1) (hI y1) (hL y1) Q)  : zW l G MX8_not (fb + 14) (lb + 284) (cc.1 + mE) (cc.2 + wE) 91 [(2, .int v2_150), (3, .ref o_151)] [] (hK h_152) (jF h_152) (hI h_152) (hL h_152) Q := by
  unfold F_X8_not_L91_2 at hF
  refine z_iload_n (n := 92) dX8_not_91 rfl 0 rfl rfl ?_
  refine z_if_le (n := 95) (t := 110) dX8_not_92 rfl (by first | decide | omega) (fun hc => ?_) (fun hc => ?_)
  · replace hF := (if_pos hc).symm.trans hF
    refine z_sub [1] rfl ?_
    obtain ⟨rfl, rfl⟩ := zpair hF
    refine z_eq (Nat.zero_add _) (Nat.zero_add _) ?_
    exact kx o_151 h_152 rfl
  · replace hF := (if_neg hc).symm.trans hF
    obtain ⟨cc, hF, hcc⟩ := zpay_some hF
    refine z_payE hcc ?_
    obtain ⟨hn_153, hF⟩ := zg_some hF
    obtain ⟨o_156, e_157, hF⟩ := zlet_ob hF
    obtain ⟨h_154, e_155, hF⟩ := zlet_ob hF
    refine z_newT (n := 98) dX8_not_95 rfl zok14 ⟨_, rfl, rfl, q1330⟩ q1329 q143 hn_153 e_157 e_155 rfl ?_
    refine z_dup (n := 99) dX8_not_98 rfl rfl ?_
    refine z_aload_n (n := 100) dX8_not_99 rfl 1 rfl rfl ?_
    obtain ⟨c_160, h_159, c_158, hF⟩ := zc1_some hF
    obtain ⟨cc, hF, hcc⟩ := zpay_some hF
    refine z_payE hcc ?_
    refine z_cI (n := 103) (mc2 := (cc.1 + mE)) (ms2 := (cc.2 + wE)) (st := [.ref o_156]) (C_X16_init htr c_158) dX8_not_100 rfl q1333 q143 q1331 q1332 rfl hcee_X16_init rfl (by first | decide | omega) rfl (by first | exact Nat.le_of_ble_eq_true rfl | omega) (Nat.le_of_eq (Nat.add_comm _ _)) (Nat.le_of_eq (Nat.add_comm _ _)) ?_
    refine z_astore_nS (n := 104) (lv' := [(3, .ref o_156), (2, .int v2_150)]) dX8_not_103 rfl rfl (by first | decide | omega) rfl ?_
    obtain ⟨v2_161, e_162, hF⟩ := zlet_ob hF
    refine z_iincE (n := 107) (w := (-1)) (v := v2_161) (lv' := [(2, .int v2_161), (3, .ref o_156)]) dX8_not_104 rfl 1 rfl (by first | decide | omega) e_162 (by first | decide | omega) rfl ?_
    refine z_goto (t := 91) dX8_not_107 (by first | decide | omega) ?_
    obtain ⟨rfl, rfl⟩ := zpair hF
    refine z_eq (Nat.zero_add _) (Nat.zero_add _) ?_
    exact kl v2_161 o_156 h_159 rfl
set_option maxHeartbeats 1000000 in
theorem C_X8_not {l : Launch} {G : zGt} (htr : l.stackTraces = false) {ex_ : Nat → Int32 → zSt → Option ((Nat × Nat) × ((Option Nat ⊕ (String × Nat)) × zSt))} {o0 : Nat} {a0 : Int32} {fb lb : Nat} (hex : ∀ (o : Nat) (a : Int32) (h : zSt) (cc : Nat × Nat) (r : (Option Nat ⊕ (String × Nat)) × zSt), ex_ o a h = some (cc, r) → zMet l G yX8_expr (ws_ yX8_expr cX8_expr 3 (some (.object "SableCrown$Expr"))) fb lb cc.1 cc.2 [.ref o, .int a] (hK h) (jF h) (hI h) (hL h) (zQe (zor r.1) (hK r.2) (jF r.2) (hI r.2) (hL r.2))) {h : zSt} {cc : Nat × Nat} {r : (Option Nat ⊕ (String × Nat)) × zSt} (hF : F_X8_not ex_ o0 a0 h = some (cc, r)) : zMet l G yX8_not (ws_ yX8_not cX8_not 5 (some (.object "SableCrown$Expr"))) (fb + 14) (lb + 284) (cc.1 + 0) (cc.2 + 0) [.ref o0, .int a0] (hK h) (jF h) (hI h) (hL h) (zQe (zor r.1) (hK r.2) (jF r.2) (hI r.2) (hL r.2)) := by
  refine zMet.of (by decide +kernel) htr (by first | exact Nat.le_of_ble_eq_true rfl | omega) ?_
  change zW l G MX8_not (fb + 14) (lb + 284) (cc.1 + 0) (cc.2 + 0) 0 [(0, .ref o0), (1, .int a0)] [] (hK h) (jF h) (hI h) (hL h) (zQe (zor r.1) (hK r.2) (jF r.2) (hI r.2) (hL r.2))
  unfold F_X8_not at hF
  refine z_iconst (n := 1) (v := 0) dX8_not_0 rfl (by first | decide | omega) ?_
  refine z_istore_nE (n := 2) (lv' := [(2, .int 0), (0, .ref o0), (1, .int a0)]) dX8_not_1 rfl rfl rfl (by first | decide | omega) rfl ?_
  refine z_sub [1, 2, 0] rfl ?_
  rcases zcs_some hF with ⟨c_170, t_171, e_169, hF⟩ | ⟨c_170, t_171, e_169, hF⟩
  · skip
    obtain ⟨cc, hF, hcc⟩ := zpay_some hF
    obtain ⟨v2_28, h_29⟩ := t_171
    dsimp only [zn2] at hF
    have H_172 : zW l G MX8_not (fb + 14) (lb + 284) (cc.1 + 0) (cc.2 + 0) 37 [(0, .ref o0), (1, .int a0), (2, .int v2_28)] [] (hK h_29) (jF h_29) (hI h_29) (hL h_29) (zQe (zor r.1) (hK r.2) (jF r.2) (hI r.2) (hL r.2)) := by
      refine z_aload_n (n := 38) dX8_not_37 rfl 0 rfl rfl ?_
      refine z_iload_n (n := 39) dX8_not_38 rfl 1 rfl rfl ?_
      obtain ⟨n_30, hk_31, hF⟩ := zka_some hF
      obtain ⟨c_35, t_36, c_32, hF⟩ := zc1_some hF
      obtain ⟨s_33, h_34⟩ := t_36
      dsimp only [zn2] at hF
      obtain ⟨cc, hF, hcc⟩ := zpay_some hF
      refine z_payE hcc ?_
      rcases zsum_some hF with ⟨q_38, e_37, hF⟩ | ⟨w_39, e_37, hF⟩
      rotate_left
      · first | rw [e_37] at c_32 ⊢ | rw [e_37] at c_32
        obtain ⟨rfl, rfl⟩ := zpair hF
        refine z_cVx (n := 42) (mc2 := (((0, 0) : Nat × Nat).1 + 0)) (ms2 := (((0, 0) : Nat × Nat).2 + 0)) (st := []) (C_X8_sum htr hex c_32) dX8_not_39 rfl (lw_V q1235 q1237 qs26 q132 q1238) hcee_X8_sum rfl (by first | decide | omega) hk_31 rfl rfl rfl (by first | exact Nat.le_of_ble_eq_true rfl | omega) (Nat.le_of_eq (Nat.add_comm _ _)) (Nat.le_of_eq (Nat.add_comm _ _)) ?_
        exact z_out rfl ⟨rfl, rfl, rfl, rfl, rfl⟩
      first | rw [e_37] at c_32 ⊢ | rw [e_37] at c_32
      refine z_cV (n := 42) (mc2 := (cc.1 + 0)) (ms2 := (cc.2 + 0)) (st := []) (C_X8_sum htr hex c_32) dX8_not_39 rfl (lw_V q1235 q1237 qs26 q132 q1238) hcee_X8_sum rfl (by first | decide | omega) hk_31 rfl rfl rfl (by first | exact Nat.le_of_ble_eq_true rfl | omega) (Nat.le_of_eq (Nat.add_comm _ _)) (Nat.le_of_eq (Nat.add_comm _ _)) ?_
      obtain ⟨o_40, hr_41, hF⟩ := zb1_some hF
      rw [hr_41]
      refine z_astore_nS (n := 43) (lv' := [(3, .ref o_40), (0, .ref o0), (1, .int a0), (2, .int v2_28)]) dX8_not_42 rfl rfl (by first | decide | omega) rfl ?_
      refine z_aload_n (n := 44) dX8_not_43 rfl 1 rfl rfl ?_
      obtain ⟨n_43, hk_42, hF⟩ := zka_some hF
      refine z_ldcS (n := 46) (j := 58) dX8_not_44 rfl zlit_X8_250 (by first | decide | omega) (znn hk_42) ?_
      obtain ⟨n_44, hk_45, hF⟩ := zka_some hF
      obtain ⟨x_47, c_46, hF⟩ := zb1_some hF
      refine z_cV (n := 49) (mc2 := (cc.1 + 0)) (ms2 := (cc.2 + 0)) (st := []) (C_X8_is htr c_46) dX8_not_46 rfl (lw_V q1078 q1080 qs15 q132 q1081) hcee_X8_is rfl (by first | decide | omega) hk_45 rfl rfl rfl (by first | exact Nat.le_of_ble_eq_true rfl | omega) (Nat.le_refl _) (Nat.le_refl _) ?_
      refine z_if_ne (n := 52) (t := 61) dX8_not_49 rfl (by first | decide | omega) (fun hc => ?_) (fun hc => ?_)
      · replace hF := (if_pos hc).symm.trans hF
        refine z_aload_n (n := 62) dX8_not_61 rfl 1 rfl rfl ?_
        obtain ⟨hb_48, hF⟩ := zg_some hF
        obtain ⟨o_49, hr_50, hF⟩ := zb1_some hF
        refine z_getRS (n := 65) dX8_not_62 rfl zok7 fX8_11_7 rfl hk_45 (Or.inl (zbig hb_48)) hr_50 ?_
        refine z_iconst (n := 66) (v := 0) dX8_not_65 rfl (by first | decide | omega) ?_
        obtain ⟨n_51, hk_52, hF⟩ := zka_some hF
        obtain ⟨x_54, c_53, hF⟩ := zb1_some hF
        refine z_cV (n := 69) (mc2 := (cc.1 + 0)) (ms2 := (cc.2 + 0)) (st := []) (C_J9_charAt htr c_53) dX8_not_66 rfl (lw_V q1294 q1295 q1296 q116 q1297) hcee_J9_charAt rfl (by first | decide | omega) hk_52 rfl rfl rfl (by first | exact Nat.le_of_ble_eq_true rfl | omega) (Nat.le_refl _) (Nat.le_refl _) ?_
        refine z_istoreE (n := 71) (lv' := [(4, .int x_54), (3, .ref o_40), (0, .ref o0), (1, .int a0), (2, .int v2_28)]) dX8_not_69 rfl rfl (by first | decide | omega) rfl ?_
        refine z_aload_n (n := 72) dX8_not_71 rfl 2 rfl rfl ?_
        obtain ⟨c_57, h_56, c_55, hF⟩ := zc1_some hF
        obtain ⟨cc, hF, hcc⟩ := zpay_some hF
        refine z_payE hcc ?_
        refine z_cV (n := 75) (mc2 := (cc.1 + 0)) (ms2 := (cc.2 + 0)) (st := []) (C_X8_go htr c_55) dX8_not_72 rfl (lw_V q975 q977 qs13 q132 q978) hcee_X8_go rfl (by first | decide | omega) hk_45 rfl rfl rfl (by first | exact Nat.le_of_ble_eq_true rfl | omega) (Nat.le_of_eq (Nat.add_comm _ _)) (Nat.le_of_eq (Nat.add_comm _ _)) ?_
        obtain ⟨cc, hF, hcc⟩ := zpay_some hF
        refine z_payE hcc ?_
        obtain ⟨hn_58, hF⟩ := zg_some hF
        obtain ⟨o_61, e_62, hF⟩ := zlet_ob hF
        obtain ⟨h_59, e_60, hF⟩ := zlet_ob hF
        refine z_newT (n := 78) dX8_not_75 rfl zok13 ⟨_, rfl, rfl, q1310⟩ q1309 q142 hn_58 e_62 e_60 rfl ?_
        refine z_dup (n := 79) dX8_not_78 rfl rfl ?_
        refine z_iload (n := 81) dX8_not_79 rfl 0 rfl ?_
        refine z_aload_n (n := 82) dX8_not_81 rfl 1 rfl rfl ?_
        refine z_aload_n (n := 83) dX8_not_82 rfl 2 rfl rfl ?_
        refine z_iload_n (n := 84) dX8_not_83 rfl 3 rfl rfl ?_
        obtain ⟨n_63, hk_64, hF⟩ := zka_some hF
        obtain ⟨c_68, t_69, c_65, hF⟩ := zc1_some hF
        obtain ⟨s_66, h_67⟩ := t_69
        dsimp only [zn2] at hF
        obtain ⟨cc, hF, hcc⟩ := zpay_some hF
        refine z_payE hcc ?_
        rcases zsum_some hF with ⟨q_71, e_70, hF⟩ | ⟨w_72, e_70, hF⟩
        rotate_left
        · first | rw [e_70] at c_65 ⊢ | rw [e_70] at c_65
          obtain ⟨rfl, rfl⟩ := zpair hF
          refine z_cVx (n := 87) (mc2 := (((0, 0) : Nat × Nat).1 + 0)) (ms2 := (((0, 0) : Nat × Nat).2 + 0)) (st := [.ref o_40, .int x_54, .ref o_61, .ref o_61]) (C_X8_sum htr hex c_65) dX8_not_84 rfl (lw_V q1235 q1237 qs26 q132 q1238) hcee_X8_sum rfl (by first | decide | omega) hk_64 rfl rfl rfl (by first | exact Nat.le_of_ble_eq_true rfl | omega) (Nat.le_of_eq (Nat.add_comm _ _)) (Nat.le_of_eq (Nat.add_comm _ _)) ?_
          exact z_out rfl ⟨rfl, rfl, rfl, rfl, rfl⟩
        first | rw [e_70] at c_65 ⊢ | rw [e_70] at c_65
        refine z_cV (n := 87) (mc2 := (cc.1 + 0)) (ms2 := (cc.2 + 0)) (st := [.ref o_40, .int x_54, .ref o_61, .ref o_61]) (C_X8_sum htr hex c_65) dX8_not_84 rfl (lw_V q1235 q1237 qs26 q132 q1238) hcee_X8_sum rfl (by first | decide | omega) hk_64 rfl rfl rfl (by first | exact Nat.le_of_ble_eq_true rfl | omega) (Nat.le_of_eq (Nat.add_comm _ _)) (Nat.le_of_eq (Nat.add_comm _ _)) ?_
        obtain ⟨o_73, hr_74, hF⟩ := zb1_some hF
        rw [hr_74]
        obtain ⟨c_77, h_76, c_75, hF⟩ := zc1_some hF
        obtain ⟨cc, hF, hcc⟩ := zpay_some hF
        refine z_payE hcc ?_
        refine z_cI (n := 90) (mc2 := (cc.1 + 0)) (ms2 := (cc.2 + 0)) (st := [.ref o_61]) (C_X15_init htr c_75) dX8_not_87 rfl q1313 q142 q1311 q1312 rfl hcee_X15_init rfl (by first | decide | omega) rfl (by first | exact Nat.le_of_ble_eq_true rfl | omega) (Nat.le_of_eq (Nat.add_comm _ _)) (Nat.le_of_eq (Nat.add_comm _ _)) ?_
        refine z_astore_nS (n := 91) (lv' := [(3, .ref o_61), (4, .int x_54), (0, .ref o0), (1, .int a0), (2, .int v2_28)]) dX8_not_90 rfl rfl (by first | decide | omega) rfl ?_
        refine z_sub [4, 0] rfl ?_
        obtain ⟨c_94, t_95, e_93, hF⟩ := zc1_some hF
        obtain ⟨cc, hF, hcc⟩ := zpay_some hF
        obtain ⟨o_91, h_92⟩ := t_95
        dsimp only [zn2] at hF
        have H_96 : zW l G MX8_not (fb + 14) (lb + 284) (cc.1 + 0) (cc.2 + 0) 110 [(3, .ref o_91)] [] (hK h_92) (jF h_92) (hI h_92) (hL h_92) (zQe (zor r.1) (hK r.2) (jF r.2) (hI r.2) (hL r.2)) := by
          refine z_aload_n (n := 111) dX8_not_110 rfl 0 rfl rfl ?_
          obtain ⟨rfl, rfl⟩ := zpair hF
          exact z_aret (r := (some o_91)) dX8_not_111 rfl (Or.inl ⟨_, rfl⟩) ⟨rfl, rfl, rfl, rfl, rfl⟩
        refine z_payE hcc ?_
        refine zloopC_ind (P := fun (s : Int32 × Nat × zSt) m w => zW l G MX8_not (fb + 14) (lb + 284) (m + (cc.1 + 0)) (w + (cc.2 + 0)) 91 [(2, .int s.1), (3, .ref s.2.1)] [] (hK s.2.2) (jF s.2.2) (hI s.2.2) (hL s.2.2) (zQe (zor r.1) (hK r.2) (jF r.2) (hI r.2) (hL r.2))) (fun s c r E9 W9 hb kl kr => ?_) e_93
        refine z_eq (Nat.add_assoc _ _ _) (Nat.add_assoc _ _ _) ?_
        exact W_X8_not_L91 (ex_ := ex_) (o0 := o0) (a0 := a0) htr hex hb (fun z0 z1 z2 e => kl _ e) (fun y0 y1 e => by obtain ⟨h1, rfl, rfl⟩ := kr _ e; cases h1; exact z_eq (Nat.zero_add _) (Nat.zero_add _) H_96)
      · replace hF := (if_neg hc).symm.trans hF
        refine z_aload_n (n := 53) dX8_not_52 rfl 1 rfl rfl ?_
        obtain ⟨n_98, hk_97, hF⟩ := zka_some hF
        refine z_ldcS (n := 55) (j := 60) dX8_not_53 rfl zlit_X8_252 (by first | decide | omega) (znn hk_97) ?_
        obtain ⟨x_100, c_99, hF⟩ := zb1_some hF
        refine z_cV (n := 58) (mc2 := (cc.1 + 0)) (ms2 := (cc.2 + 0)) (st := []) (C_X8_is htr c_99) dX8_not_55 rfl (lw_V q1078 q1080 qs15 q132 q1081) hcee_X8_is rfl (by first | decide | omega) hk_45 rfl rfl rfl (by first | exact Nat.le_of_ble_eq_true rfl | omega) (Nat.le_refl _) (Nat.le_refl _) ?_
        refine z_if_eq (n := 61) (t := 91) dX8_not_58 rfl (by first | decide | omega) (fun hc => ?_) (fun hc => ?_)
        · replace hF := (if_pos hc).symm.trans hF
          refine z_sub [3, 0] rfl ?_
          obtain ⟨c_117, t_118, e_116, hF⟩ := zc1_some hF
          obtain ⟨cc, hF, hcc⟩ := zpay_some hF
          obtain ⟨o_114, h_115⟩ := t_118
          dsimp only [zn2] at hF
          have H_119 : zW l G MX8_not (fb + 14) (lb + 284) (cc.1 + 0) (cc.2 + 0) 110 [(3, .ref o_114)] [] (hK h_115) (jF h_115) (hI h_115) (hL h_115) (zQe (zor r.1) (hK r.2) (jF r.2) (hI r.2) (hL r.2)) := by
            refine z_aload_n (n := 111) dX8_not_110 rfl 0 rfl rfl ?_
            obtain ⟨rfl, rfl⟩ := zpair hF
            exact z_aret (r := (some o_114)) dX8_not_111 rfl (Or.inl ⟨_, rfl⟩) ⟨rfl, rfl, rfl, rfl, rfl⟩
          refine z_payE hcc ?_
          refine zloopC_ind (P := fun (s : Int32 × Nat × zSt) m w => zW l G MX8_not (fb + 14) (lb + 284) (m + (cc.1 + 0)) (w + (cc.2 + 0)) 91 [(2, .int s.1), (3, .ref s.2.1)] [] (hK s.2.2) (jF s.2.2) (hI s.2.2) (hL s.2.2) (zQe (zor r.1) (hK r.2) (jF r.2) (hI r.2) (hL r.2))) (fun s c r E9 W9 hb kl kr => ?_) e_116
          refine z_eq (Nat.add_assoc _ _ _) (Nat.add_assoc _ _ _) ?_
          exact W_X8_not_L91_1 (ex_ := ex_) (o0 := o0) (a0 := a0) htr hex hb (fun z0 z1 z2 e => kl _ e) (fun y0 y1 e => by obtain ⟨h1, rfl, rfl⟩ := kr _ e; cases h1; exact z_eq (Nat.zero_add _) (Nat.zero_add _) H_119)
        · replace hF := (if_neg hc).symm.trans hF
          refine z_aload_n (n := 62) dX8_not_61 rfl 1 rfl rfl ?_
          obtain ⟨hb_120, hF⟩ := zg_some hF
          obtain ⟨o_121, hr_122, hF⟩ := zb1_some hF
          refine z_getRS (n := 65) dX8_not_62 rfl zok7 fX8_11_7 rfl hk_45 (Or.inl (zbig hb_120)) hr_122 ?_
          refine z_iconst (n := 66) (v := 0) dX8_not_65 rfl (by first | decide | omega) ?_
          obtain ⟨n_123, hk_124, hF⟩ := zka_some hF
          obtain ⟨x_126, c_125, hF⟩ := zb1_some hF
          refine z_cV (n := 69) (mc2 := (cc.1 + 0)) (ms2 := (cc.2 + 0)) (st := []) (C_J9_charAt htr c_125) dX8_not_66 rfl (lw_V q1294 q1295 q1296 q116 q1297) hcee_J9_charAt rfl (by first | decide | omega) hk_124 rfl rfl rfl (by first | exact Nat.le_of_ble_eq_true rfl | omega) (Nat.le_refl _) (Nat.le_refl _) ?_
          refine z_istoreE (n := 71) (lv' := [(4, .int x_126), (3, .ref o_40), (0, .ref o0), (1, .int a0), (2, .int v2_28)]) dX8_not_69 rfl rfl (by first | decide | omega) rfl ?_
          refine z_aload_n (n := 72) dX8_not_71 rfl 2 rfl rfl ?_
          obtain ⟨c_129, h_128, c_127, hF⟩ := zc1_some hF
          obtain ⟨cc, hF, hcc⟩ := zpay_some hF
          refine z_payE hcc ?_
          refine z_cV (n := 75) (mc2 := (cc.1 + 0)) (ms2 := (cc.2 + 0)) (st := []) (C_X8_go htr c_127) dX8_not_72 rfl (lw_V q975 q977 qs13 q132 q978) hcee_X8_go rfl (by first | decide | omega) hk_45 rfl rfl rfl (by first | exact Nat.le_of_ble_eq_true rfl | omega) (Nat.le_of_eq (Nat.add_comm _ _)) (Nat.le_of_eq (Nat.add_comm _ _)) ?_
          obtain ⟨cc, hF, hcc⟩ := zpay_some hF
          refine z_payE hcc ?_
          obtain ⟨hn_130, hF⟩ := zg_some hF
          obtain ⟨o_133, e_134, hF⟩ := zlet_ob hF
          obtain ⟨h_131, e_132, hF⟩ := zlet_ob hF
          refine z_newT (n := 78) dX8_not_75 rfl zok13 ⟨_, rfl, rfl, q1310⟩ q1309 q142 hn_130 e_134 e_132 rfl ?_
          refine z_dup (n := 79) dX8_not_78 rfl rfl ?_
          refine z_iload (n := 81) dX8_not_79 rfl 0 rfl ?_
          refine z_aload_n (n := 82) dX8_not_81 rfl 1 rfl rfl ?_
          refine z_aload_n (n := 83) dX8_not_82 rfl 2 rfl rfl ?_
          refine z_iload_n (n := 84) dX8_not_83 rfl 3 rfl rfl ?_
          obtain ⟨n_135, hk_136, hF⟩ := zka_some hF
          obtain ⟨c_140, t_141, c_137, hF⟩ := zc1_some hF
          obtain ⟨s_138, h_139⟩ := t_141
          dsimp only [zn2] at hF
          obtain ⟨cc, hF, hcc⟩ := zpay_some hF
          refine z_payE hcc ?_
          rcases zsum_some hF with ⟨q_143, e_142, hF⟩ | ⟨w_144, e_142, hF⟩
          rotate_left
          · first | rw [e_142] at c_137 ⊢ | rw [e_142] at c_137
            obtain ⟨rfl, rfl⟩ := zpair hF
            refine z_cVx (n := 87) (mc2 := (((0, 0) : Nat × Nat).1 + 0)) (ms2 := (((0, 0) : Nat × Nat).2 + 0)) (st := [.ref o_40, .int x_126, .ref o_133, .ref o_133]) (C_X8_sum htr hex c_137) dX8_not_84 rfl (lw_V q1235 q1237 qs26 q132 q1238) hcee_X8_sum rfl (by first | decide | omega) hk_136 rfl rfl rfl (by first | exact Nat.le_of_ble_eq_true rfl | omega) (Nat.le_of_eq (Nat.add_comm _ _)) (Nat.le_of_eq (Nat.add_comm _ _)) ?_
            exact z_out rfl ⟨rfl, rfl, rfl, rfl, rfl⟩
          first | rw [e_142] at c_137 ⊢ | rw [e_142] at c_137
          refine z_cV (n := 87) (mc2 := (cc.1 + 0)) (ms2 := (cc.2 + 0)) (st := [.ref o_40, .int x_126, .ref o_133, .ref o_133]) (C_X8_sum htr hex c_137) dX8_not_84 rfl (lw_V q1235 q1237 qs26 q132 q1238) hcee_X8_sum rfl (by first | decide | omega) hk_136 rfl rfl rfl (by first | exact Nat.le_of_ble_eq_true rfl | omega) (Nat.le_of_eq (Nat.add_comm _ _)) (Nat.le_of_eq (Nat.add_comm _ _)) ?_
          obtain ⟨o_145, hr_146, hF⟩ := zb1_some hF
          rw [hr_146]
          obtain ⟨c_149, h_148, c_147, hF⟩ := zc1_some hF
          obtain ⟨cc, hF, hcc⟩ := zpay_some hF
          refine z_payE hcc ?_
          refine z_cI (n := 90) (mc2 := (cc.1 + 0)) (ms2 := (cc.2 + 0)) (st := [.ref o_133]) (C_X15_init htr c_147) dX8_not_87 rfl q1313 q142 q1311 q1312 rfl hcee_X15_init rfl (by first | decide | omega) rfl (by first | exact Nat.le_of_ble_eq_true rfl | omega) (Nat.le_of_eq (Nat.add_comm _ _)) (Nat.le_of_eq (Nat.add_comm _ _)) ?_
          refine z_astore_nS (n := 91) (lv' := [(3, .ref o_133), (4, .int x_126), (0, .ref o0), (1, .int a0), (2, .int v2_28)]) dX8_not_90 rfl rfl (by first | decide | omega) rfl ?_
          refine z_sub [4, 0] rfl ?_
          obtain ⟨c_166, t_167, e_165, hF⟩ := zc1_some hF
          obtain ⟨cc, hF, hcc⟩ := zpay_some hF
          obtain ⟨o_163, h_164⟩ := t_167
          dsimp only [zn2] at hF
          have H_168 : zW l G MX8_not (fb + 14) (lb + 284) (cc.1 + 0) (cc.2 + 0) 110 [(3, .ref o_163)] [] (hK h_164) (jF h_164) (hI h_164) (hL h_164) (zQe (zor r.1) (hK r.2) (jF r.2) (hI r.2) (hL r.2)) := by
            refine z_aload_n (n := 111) dX8_not_110 rfl 0 rfl rfl ?_
            obtain ⟨rfl, rfl⟩ := zpair hF
            exact z_aret (r := (some o_163)) dX8_not_111 rfl (Or.inl ⟨_, rfl⟩) ⟨rfl, rfl, rfl, rfl, rfl⟩
          refine z_payE hcc ?_
          refine zloopC_ind (P := fun (s : Int32 × Nat × zSt) m w => zW l G MX8_not (fb + 14) (lb + 284) (m + (cc.1 + 0)) (w + (cc.2 + 0)) 91 [(2, .int s.1), (3, .ref s.2.1)] [] (hK s.2.2) (jF s.2.2) (hI s.2.2) (hL s.2.2) (zQe (zor r.1) (hK r.2) (jF r.2) (hI r.2) (hL r.2))) (fun s c r E9 W9 hb kl kr => ?_) e_165
          refine z_eq (Nat.add_assoc _ _ _) (Nat.add_assoc _ _ _) ?_
          exact W_X8_not_L91_2 (ex_ := ex_) (o0 := o0) (a0 := a0) htr hex hb (fun z0 z1 z2 e => kl _ e) (fun y0 y1 e => by obtain ⟨h1, rfl, rfl⟩ := kr _ e; cases h1; exact z_eq (Nat.zero_add _) (Nat.zero_add _) H_168)
    refine z_payE hcc ?_
    refine zloopC_ind (P := fun (s : Int32 × zSt) m w => zW l G MX8_not (fb + 14) (lb + 284) (m + (cc.1 + 0)) (w + (cc.2 + 0)) 2 [(0, .ref o0), (1, .int a0), (2, .int s.1)] [] (hK s.2) (jF s.2) (hI s.2) (hL s.2) (zQe (zor r.1) (hK r.2) (jF r.2) (hI r.2) (hL r.2))) (fun s c r E9 W9 hb kl kr => ?_) e_169
    refine z_eq (Nat.add_assoc _ _ _) (Nat.add_assoc _ _ _) ?_
    exact W_X8_not_L2 (ex_ := ex_) (o0 := o0) (a0 := a0) htr hex hb (fun z0 z1 e => kl _ e) (fun y0 y1 e => by obtain ⟨h1, rfl, rfl⟩ := kr _ e; cases h1; exact z_eq (Nat.zero_add _) (Nat.zero_add _) H_172) (fun z e => by have h1 := (kr _ e).1; cases h1)
  · skip
    obtain ⟨cc, hF, hcc⟩ := zpay_some hF
    obtain ⟨h9, hq⟩ := zpair hF
    subst h9
    refine z_payE hcc ?_
    refine zloopC_ind (P := fun (s : Int32 × zSt) m w => zW l G MX8_not (fb + 14) (lb + 284) (m + (((0, 0) : Nat × Nat).1 + 0)) (w + (((0, 0) : Nat × Nat).2 + 0)) 2 [(0, .ref o0), (1, .int a0), (2, .int s.1)] [] (hK s.2) (jF s.2) (hI s.2) (hL s.2) (zQe (zor r.1) (hK r.2) (jF r.2) (hI r.2) (hL r.2))) (fun s c r E9 W9 hb kl kr => ?_) e_169
    refine z_eq (Nat.add_assoc _ _ _) (Nat.add_assoc _ _ _) ?_
    exact W_X8_not_L2 (ex_ := ex_) (o0 := o0) (a0 := a0) htr hex hb (fun z0 z1 e => kl _ e) (fun y0 y1 e => by have h1 := (kr _ e).1; cases h1) (fun z e => by have h1 := (kr _ e).1; cases h1; subst hq; exact ⟨rfl, rfl, rfl, rfl, rfl⟩)
theorem hcee_X8_not : zCee yX8_not RX8 1 := ⟨rfl, by decide +kernel, by decide +kernel, by decide +kernel⟩
theorem zlit_X8_245 : ((RX8, 245, "and", 54) : String × Nat × String × Nat) ∈ zLit := List.mem_of_getElem? (i := 12) rfl
abbrev MX8_and : zM := (RX8, cX8_and, 3, (some (.object "SableCrown$Expr")), "and", [])
noncomputable def F_X8_and_L6 (ex_ : Nat → Int32 → zSt → Option ((Nat × Nat) × ((Option Nat ⊕ (String × Nat)) × zSt))) (o0 : Nat) (a0 : Int32) (o_13 : Nat) (h_14 : zSt) : Option ((Nat × Nat) × ((Nat × zSt) ⊕ ((Nat × zSt) ⊕ ((Option Nat ⊕ (String × Nat)) × zSt)))) := zka (hK h_14) 54 15 (fun n_16 => zka (hK h_14) o0 7 (fun n_17 => zb1 (F_X8_is (hK h_14) (jF h_14) o0 54 (hI h_14)) (fun x_20 => if x_20 = 0 then some ((0, 0), .inr (.inl (o_13, h_14))) else zc1 (F_X8_go o0 h_14) (fun c_23 h_22 => zpay c_23 (zpay (1, 3) (zg (zfree h_22) (zlet (hN h_22) (fun o_27 => zlet (znA h_22 13 0) (fun h_25 => zka (hK h_25) o0 7 (fun n_29 => zc1 (F_X8_not ex_ o0 a0 h_25) (fun c_34 => zn2 (fun s_32 h_33 => zpay c_34 (zsum s_32 (fun q_37 => zb1 q_37 (fun o_39 => zc1 (F_X15_init o_27 38 o_13 o_39 h_33) (fun c_43 h_42 => zpay c_43 (some ((0, 0), .inl (o_27, h_42)))))) (fun w_38 => some ((0, 0), .inr (.inr (.inr w_38, h_33)))))))))))))))))
noncomputable def F_X8_and (ex_ : Nat → Int32 → zSt → Option ((Nat × Nat) × ((Option Nat ⊕ (String × Nat)) × zSt))) (o0 : Nat) (a0 : Int32) (h : zSt) : Option ((Nat × Nat) × ((Option Nat ⊕ (String × Nat)) × zSt)) := zka (hK h) o0 7 (fun n_1 => zc1 (F_X8_not ex_ o0 a0 h) (fun c_6 => zn2 (fun s_4 h_5 => zpay c_6 (zsum s_4 (fun q_9 => zb1 q_9 (fun o_11 => zcs (zloopC (fun s : Nat × zSt => F_X8_and_L6 ex_ o0 a0 s.1 s.2) (o_11, h_5)) (fun c_47 t_48 => zpay c_47 ((zn2 (fun o_44 h_45 => some ((0, 0), (.inl (some o_44), h_45)))) t_48)) (fun c_47 z_50 => zpay c_47 (some ((0, 0), z_50))))) (fun w_10 => some ((0, 0), (.inr w_10, h_5)))))))
set_option maxHeartbeats 1000000 in
theorem W_X8_and_L6 {l : Launch} {G : zGt} (htr : l.stackTraces = false) {Q : zQt} {mE wE : Nat} {cc : Nat × Nat} {ex_ : Nat → Int32 → zSt → Option ((Nat × Nat) × ((Option Nat ⊕ (String × Nat)) × zSt))} {o0 : Nat} {a0 : Int32} {o_13 : Nat} {h_14 : zSt} {fb lb : Nat} (hex : ∀ (o : Nat) (a : Int32) (h : zSt) (cc : Nat × Nat) (r : (Option Nat ⊕ (String × Nat)) × zSt), ex_ o a h = some (cc, r) → zMet l G yX8_expr (ws_ yX8_expr cX8_expr 3 (some (.object "SableCrown$Expr"))) fb lb cc.1 cc.2 [.ref o, .int a] (hK h) (jF h) (hI h) (hL h) (zQe (zor r.1) (hK r.2) (jF r.2) (hI r.2) (hL r.2))) {r : (Nat × zSt) ⊕ ((Nat × zSt) ⊕ ((Option Nat ⊕ (String × Nat)) × zSt))} (hF : F_X8_and_L6 ex_ o0 a0 o_13 h_14 = some (cc, r)) (kl : ∀ (z0 : Nat) (z1 : zSt), r = .inl (z0, z1) → zW l G MX8_and (fb + 15) (lb + 308) mE wE 6 [(0, .ref o0), (1, .int a0), (2, .ref z0)] [] (hK z1) (jF z1) (hI z1) (hL z1) Q) (kx : ∀ (y0 : Nat) (y1 : zSt), r = .inr (.inl (y0, y1)) → zW l G MX8_and (fb + 15) (lb + 308) mE wE 38 [(2, .ref y0)] [] (hK y1) (jF y1) (hI y1) (hL y1) Q) (kq : ∀ z : (Option Nat ⊕ (String × Nat)) × zSt, r = .inr (.inr z) → Q (zor z.1) (hK z.2) (jF z.2) (hI z.2) (hL z.2)) : zW l G MX8_and (fb + 15) (lb + 308) (cc.1 + mE) (cc.2 + wE) 6 [(0, .ref o0), (1, .int a0), (2, .ref o_13)] [] (hK h_14) (jF h_14) (hI h_14) (hL h_14) Q := by
  unfold F_X8_and_L6 at hF
  refine z_aload_n (n := 7) dX8_and_6 rfl 0 rfl rfl ?_
  obtain ⟨n_16, hk_15, hF⟩ := zka_some hF
  refine z_ldcS (n := 9) (j := 54) dX8_and_7 rfl zlit_X8_245 (by first | decide | omega) (znn hk_15) ?_
  obtain ⟨n_17, hk_18, hF⟩ := zka_some hF
  obtain ⟨x_20, c_19, hF⟩ := zb1_some hF
  refine z_cV (n := 12) (mc2 := (cc.1 + mE)) (ms2 := (cc.2 + wE)) (st := []) (C_X8_is htr c_19) dX8_and_9 rfl (lw_V q1078 q1080 qs15 q132 q1081) hcee_X8_is rfl (by first | decide | omega) hk_18 rfl rfl rfl (by first | exact Nat.le_of_ble_eq_true rfl | omega) (Nat.le_refl _) (Nat.le_refl _) ?_
  refine z_if_eq (n := 15) (t := 38) dX8_and_12 rfl (by first | decide | omega) (fun hc => ?_) (fun hc => ?_)
  · replace hF := (if_pos hc).symm.trans hF
    refine z_sub [2] rfl ?_
    obtain ⟨rfl, rfl⟩ := zpair hF
    refine z_eq (Nat.zero_add _) (Nat.zero_add _) ?_
    exact kx o_13 h_14 rfl
  · replace hF := (if_neg hc).symm.trans hF
    refine z_aload_n (n := 16) dX8_and_15 rfl 0 rfl rfl ?_
    obtain ⟨c_23, h_22, c_21, hF⟩ := zc1_some hF
    obtain ⟨cc, hF, hcc⟩ := zpay_some hF
    refine z_payE hcc ?_
    refine z_cV (n := 19) (mc2 := (cc.1 + mE)) (ms2 := (cc.2 + wE)) (st := []) (C_X8_go htr c_21) dX8_and_16 rfl (lw_V q975 q977 qs13 q132 q978) hcee_X8_go rfl (by first | decide | omega) hk_18 rfl rfl rfl (by first | exact Nat.le_of_ble_eq_true rfl | omega) (Nat.le_of_eq (Nat.add_comm _ _)) (Nat.le_of_eq (Nat.add_comm _ _)) ?_
    obtain ⟨cc, hF, hcc⟩ := zpay_some hF
    refine z_payE hcc ?_
    obtain ⟨hn_24, hF⟩ := zg_some hF
    obtain ⟨o_27, e_28, hF⟩ := zlet_ob hF
    obtain ⟨h_25, e_26, hF⟩ := zlet_ob hF
    refine z_newT (n := 22) dX8_and_19 rfl zok13 ⟨_, rfl, rfl, q1310⟩ q1309 q142 hn_24 e_28 e_26 rfl ?_
    refine z_dup (n := 23) dX8_and_22 rfl rfl ?_
    refine z_bipush (n := 25) (v := 38) dX8_and_23 rfl (by first | decide | omega) ?_
    refine z_aload_n (n := 26) dX8_and_25 rfl 2 rfl rfl ?_
    refine z_aload_n (n := 27) dX8_and_26 rfl 0 rfl rfl ?_
    refine z_iload_n (n := 28) dX8_and_27 rfl 1 rfl rfl ?_
    obtain ⟨n_29, hk_30, hF⟩ := zka_some hF
    obtain ⟨c_34, t_35, c_31, hF⟩ := zc1_some hF
    obtain ⟨s_32, h_33⟩ := t_35
    dsimp only [zn2] at hF
    obtain ⟨cc, hF, hcc⟩ := zpay_some hF
    refine z_payE hcc ?_
    rcases zsum_some hF with ⟨q_37, e_36, hF⟩ | ⟨w_38, e_36, hF⟩
    rotate_left
    · first | rw [e_36] at c_31 ⊢ | rw [e_36] at c_31
      obtain ⟨rfl, rfl⟩ := zpair hF
      refine z_cVx (n := 31) (mc2 := (((0, 0) : Nat × Nat).1 + mE)) (ms2 := (((0, 0) : Nat × Nat).2 + wE)) (st := [.ref o_13, .int 38, .ref o_27, .ref o_27]) (C_X8_not htr hex c_31) dX8_and_28 rfl (lw_V q1230 q1232 qs25 q132 q1233) hcee_X8_not rfl (by first | decide | omega) hk_30 rfl rfl rfl (by first | exact Nat.le_of_ble_eq_true rfl | omega) (Nat.le_of_eq (Nat.add_comm _ _)) (Nat.le_of_eq (Nat.add_comm _ _)) ?_
      exact z_out rfl (kq _ rfl)
    first | rw [e_36] at c_31 ⊢ | rw [e_36] at c_31
    refine z_cV (n := 31) (mc2 := (cc.1 + mE)) (ms2 := (cc.2 + wE)) (st := [.ref o_13, .int 38, .ref o_27, .ref o_27]) (C_X8_not htr hex c_31) dX8_and_28 rfl (lw_V q1230 q1232 qs25 q132 q1233) hcee_X8_not rfl (by first | decide | omega) hk_30 rfl rfl rfl (by first | exact Nat.le_of_ble_eq_true rfl | omega) (Nat.le_of_eq (Nat.add_comm _ _)) (Nat.le_of_eq (Nat.add_comm _ _)) ?_
    obtain ⟨o_39, hr_40, hF⟩ := zb1_some hF
    rw [hr_40]
    obtain ⟨c_43, h_42, c_41, hF⟩ := zc1_some hF
    obtain ⟨cc, hF, hcc⟩ := zpay_some hF
    refine z_payE hcc ?_
    refine z_cI (n := 34) (mc2 := (cc.1 + mE)) (ms2 := (cc.2 + wE)) (st := [.ref o_27]) (C_X15_init htr c_41) dX8_and_31 rfl q1313 q142 q1311 q1312 rfl hcee_X15_init rfl (by first | decide | omega) rfl (by first | exact Nat.le_of_ble_eq_true rfl | omega) (Nat.le_of_eq (Nat.add_comm _ _)) (Nat.le_of_eq (Nat.add_comm _ _)) ?_
    refine z_astore_nS (n := 35) (lv' := [(2, .ref o_27), (0, .ref o0), (1, .int a0)]) dX8_and_34 rfl rfl (by first | decide | omega) rfl ?_
    refine z_goto (t := 6) dX8_and_35 (by first | decide | omega) ?_
    refine z_sub [1, 2, 0] rfl ?_
    obtain ⟨rfl, rfl⟩ := zpair hF
    refine z_eq (Nat.zero_add _) (Nat.zero_add _) ?_
    exact kl o_27 h_42 rfl
set_option maxHeartbeats 1000000 in
theorem C_X8_and {l : Launch} {G : zGt} (htr : l.stackTraces = false) {ex_ : Nat → Int32 → zSt → Option ((Nat × Nat) × ((Option Nat ⊕ (String × Nat)) × zSt))} {o0 : Nat} {a0 : Int32} {fb lb : Nat} (hex : ∀ (o : Nat) (a : Int32) (h : zSt) (cc : Nat × Nat) (r : (Option Nat ⊕ (String × Nat)) × zSt), ex_ o a h = some (cc, r) → zMet l G yX8_expr (ws_ yX8_expr cX8_expr 3 (some (.object "SableCrown$Expr"))) fb lb cc.1 cc.2 [.ref o, .int a] (hK h) (jF h) (hI h) (hL h) (zQe (zor r.1) (hK r.2) (jF r.2) (hI r.2) (hL r.2))) {h : zSt} {cc : Nat × Nat} {r : (Option Nat ⊕ (String × Nat)) × zSt} (hF : F_X8_and ex_ o0 a0 h = some (cc, r)) : zMet l G yX8_and (ws_ yX8_and cX8_and 3 (some (.object "SableCrown$Expr"))) (fb + 15) (lb + 308) (cc.1 + 0) (cc.2 + 0) [.ref o0, .int a0] (hK h) (jF h) (hI h) (hL h) (zQe (zor r.1) (hK r.2) (jF r.2) (hI r.2) (hL r.2)) := by
  refine zMet.of (by decide +kernel) htr (by first | exact Nat.le_of_ble_eq_true rfl | omega) ?_
  change zW l G MX8_and (fb + 15) (lb + 308) (cc.1 + 0) (cc.2 + 0) 0 [(0, .ref o0), (1, .int a0)] [] (hK h) (jF h) (hI h) (hL h) (zQe (zor r.1) (hK r.2) (jF r.2) (hI r.2) (hL r.2))
  unfold F_X8_and at hF
  refine z_aload_n (n := 1) dX8_and_0 rfl 0 rfl rfl ?_
  refine z_iload_n (n := 2) dX8_and_1 rfl 1 rfl rfl ?_
  obtain ⟨n_1, hk_2, hF⟩ := zka_some hF
  obtain ⟨c_6, t_7, c_3, hF⟩ := zc1_some hF
  obtain ⟨s_4, h_5⟩ := t_7
  dsimp only [zn2] at hF
  obtain ⟨cc, hF, hcc⟩ := zpay_some hF
  refine z_payE hcc ?_
  rcases zsum_some hF with ⟨q_9, e_8, hF⟩ | ⟨w_10, e_8, hF⟩
  rotate_left
  · first | rw [e_8] at c_3 ⊢ | rw [e_8] at c_3
    obtain ⟨rfl, rfl⟩ := zpair hF
    refine z_cVx (n := 5) (mc2 := (((0, 0) : Nat × Nat).1 + 0)) (ms2 := (((0, 0) : Nat × Nat).2 + 0)) (st := []) (C_X8_not htr hex c_3) dX8_and_2 rfl (lw_V q1230 q1232 qs25 q132 q1233) hcee_X8_not rfl (by first | decide | omega) hk_2 rfl rfl rfl (by first | exact Nat.le_of_ble_eq_true rfl | omega) (Nat.le_of_eq (Nat.add_comm _ _)) (Nat.le_of_eq (Nat.add_comm _ _)) ?_
    exact z_out rfl ⟨rfl, rfl, rfl, rfl, rfl⟩
  first | rw [e_8] at c_3 ⊢ | rw [e_8] at c_3
  refine z_cV (n := 5) (mc2 := (cc.1 + 0)) (ms2 := (cc.2 + 0)) (st := []) (C_X8_not htr hex c_3) dX8_and_2 rfl (lw_V q1230 q1232 qs25 q132 q1233) hcee_X8_not rfl (by first | decide | omega) hk_2 rfl rfl rfl (by first | exact Nat.le_of_ble_eq_true rfl | omega) (Nat.le_of_eq (Nat.add_comm _ _)) (Nat.le_of_eq (Nat.add_comm _ _)) ?_
  obtain ⟨o_11, hr_12, hF⟩ := zb1_some hF
  rw [hr_12]
  refine z_astore_nS (n := 6) (lv' := [(2, .ref o_11), (0, .ref o0), (1, .int a0)]) dX8_and_5 rfl rfl (by first | decide | omega) rfl ?_
  refine z_sub [1, 2, 0] rfl ?_
  rcases zcs_some hF with ⟨c_47, t_48, e_46, hF⟩ | ⟨c_47, t_48, e_46, hF⟩
  · skip
    obtain ⟨cc, hF, hcc⟩ := zpay_some hF
    obtain ⟨o_44, h_45⟩ := t_48
    dsimp only [zn2] at hF
    have H_49 : zW l G MX8_and (fb + 15) (lb + 308) (cc.1 + 0) (cc.2 + 0) 38 [(2, .ref o_44)] [] (hK h_45) (jF h_45) (hI h_45) (hL h_45) (zQe (zor r.1) (hK r.2) (jF r.2) (hI r.2) (hL r.2)) := by
      refine z_aload_n (n := 39) dX8_and_38 rfl 0 rfl rfl ?_
      obtain ⟨rfl, rfl⟩ := zpair hF
      exact z_aret (r := (some o_44)) dX8_and_39 rfl (Or.inl ⟨_, rfl⟩) ⟨rfl, rfl, rfl, rfl, rfl⟩
    refine z_payE hcc ?_
    refine zloopC_ind (P := fun (s : Nat × zSt) m w => zW l G MX8_and (fb + 15) (lb + 308) (m + (cc.1 + 0)) (w + (cc.2 + 0)) 6 [(0, .ref o0), (1, .int a0), (2, .ref s.1)] [] (hK s.2) (jF s.2) (hI s.2) (hL s.2) (zQe (zor r.1) (hK r.2) (jF r.2) (hI r.2) (hL r.2))) (fun s c r E9 W9 hb kl kr => ?_) e_46
    refine z_eq (Nat.add_assoc _ _ _) (Nat.add_assoc _ _ _) ?_
    exact W_X8_and_L6 (ex_ := ex_) (o0 := o0) (a0 := a0) htr hex hb (fun z0 z1 e => kl _ e) (fun y0 y1 e => by obtain ⟨h1, rfl, rfl⟩ := kr _ e; cases h1; exact z_eq (Nat.zero_add _) (Nat.zero_add _) H_49) (fun z e => by have h1 := (kr _ e).1; cases h1)
  · skip
    obtain ⟨cc, hF, hcc⟩ := zpay_some hF
    obtain ⟨h9, hq⟩ := zpair hF
    subst h9
    refine z_payE hcc ?_
    refine zloopC_ind (P := fun (s : Nat × zSt) m w => zW l G MX8_and (fb + 15) (lb + 308) (m + (((0, 0) : Nat × Nat).1 + 0)) (w + (((0, 0) : Nat × Nat).2 + 0)) 6 [(0, .ref o0), (1, .int a0), (2, .ref s.1)] [] (hK s.2) (jF s.2) (hI s.2) (hL s.2) (zQe (zor r.1) (hK r.2) (jF r.2) (hI r.2) (hL r.2))) (fun s c r E9 W9 hb kl kr => ?_) e_46
    refine z_eq (Nat.add_assoc _ _ _) (Nat.add_assoc _ _ _) ?_
    exact W_X8_and_L6 (ex_ := ex_) (o0 := o0) (a0 := a0) htr hex hb (fun z0 z1 e => kl _ e) (fun y0 y1 e => by have h1 := (kr _ e).1; cases h1) (fun z e => by have h1 := (kr _ e).1; cases h1; subst hq; exact ⟨rfl, rfl, rfl, rfl, rfl⟩)
theorem hcee_X8_and : zCee yX8_and RX8 1 := ⟨rfl, by decide +kernel, by decide +kernel, by decide +kernel⟩
theorem zlit_X8_235 : ((RX8, 235, "or", 52) : String × Nat × String × Nat) ∈ zLit := List.mem_of_getElem? (i := 11) rfl
abbrev MX8_expr : zM := (RX8, cX8_expr, 3, (some (.object "SableCrown$Expr")), "expr", [])
noncomputable def F_X8_expr_L51 (ex_ : Nat → Int32 → zSt → Option ((Nat × Nat) × ((Option Nat ⊕ (String × Nat)) × zSt))) (o0 : Nat) (a0 : Int32) (o_17 : Nat) (h_18 : zSt) : Option ((Nat × Nat) × ((Nat × zSt) ⊕ ((Nat × zSt) ⊕ ((Option Nat ⊕ (String × Nat)) × zSt)))) := zka (hK h_18) 52 15 (fun n_20 => zka (hK h_18) o0 7 (fun n_21 => zb1 (F_X8_is (hK h_18) (jF h_18) o0 52 (hI h_18)) (fun x_24 => if x_24 = 0 then some ((0, 0), .inr (.inl (o_17, h_18))) else zc1 (F_X8_go o0 h_18) (fun c_27 h_26 => zpay c_27 (zpay (1, 3) (zg (zfree h_26) (zlet (hN h_26) (fun o_31 => zlet (znA h_26 13 0) (fun h_29 => zka (hK h_29) o0 7 (fun n_33 => zc1 (F_X8_and ex_ o0 a0 h_29) (fun c_38 => zn2 (fun s_36 h_37 => zpay c_38 (zsum s_36 (fun q_41 => zb1 q_41 (fun o_43 => zc1 (F_X15_init o_31 124 o_17 o_43 h_37) (fun c_47 h_46 => zpay c_47 (some ((0, 0), .inl (o_31, h_46)))))) (fun w_42 => some ((0, 0), .inr (.inr (.inr w_42, h_37)))))))))))))))))
noncomputable def F_X8_expr (ex_ : Nat → Int32 → zSt → Option ((Nat × Nat) × ((Option Nat ⊕ (String × Nat)) × zSt))) (o0 : Nat) (a0 : Int32) (h : zSt) : Option ((Nat × Nat) × ((Option Nat ⊕ (String × Nat)) × zSt)) := zlet (fun (h_1 : zSt) => zka (hK h_1) o0 7 (fun n_5 => zc1 (F_X8_and ex_ o0 a0 h_1) (fun c_10 => zn2 (fun s_8 h_9 => zpay c_10 (zsum s_8 (fun q_13 => zb1 q_13 (fun o_15 => zcs (zloopC (fun s : Nat × zSt => F_X8_expr_L51 ex_ o0 a0 s.1 s.2) (o_15, h_9)) (fun c_51 t_52 => zpay c_51 ((zn2 (fun o_48 h_49 => some ((0, 0), (.inl (some o_48), h_49)))) t_52)) (fun c_51 z_54 => zpay c_51 (some ((0, 0), z_54))))) (fun w_14 => some ((0, 0), (.inr w_14, h_9)))))))) (fun k_2 => if a0 < 6 then k_2 h else zka (hK h) o0 7 (fun n_55 => zg (decide (600 ≤ o0)) (zb1 ((jF h) o0 6) (fun o_58 => zg ((hK h) 1).isSome (zg (zcmpok (some o_58) (some 1)) (if (some o_58) = (some 1) then zc1 (F_X8_check o0 0 2 h) (fun c_65 => zn2 (fun s_63 h_64 => zpay c_65 (zsum s_63 (fun x_68 => k_2 h_64) (fun w_69 => some ((0, 0), (.inr w_69, h_64)))))) else zb1 ((jF h) o0 6) (fun o_70 => zg ((hK h) 0).isSome (zg (zcmpok (some o_70) (some 0)) (if (some o_70) = (some 0) then zc1 (F_X8_check o0 0 2 h) (fun c_77 => zn2 (fun s_75 h_76 => zpay c_77 (zsum s_75 (fun x_80 => k_2 h_76) (fun w_81 => some ((0, 0), (.inr w_81, h_76)))))) else zka (hK h) 50 15 (fun n_83 => zb1 (F_X8_is (hK h) (jF h) o0 50 (hI h)) (fun x_85 => if ¬ x_85 = 0 then zc1 (F_X8_check o0 0 2 h) (fun c_89 => zn2 (fun s_87 h_88 => zpay c_89 (zsum s_87 (fun x_92 => k_2 h_88) (fun w_93 => some ((0, 0), (.inr w_93, h_88)))))) else zc1 (F_X8_check o0 1 2 h) (fun c_97 => zn2 (fun s_95 h_96 => zpay c_97 (zsum s_95 (fun x_100 => k_2 h_96) (fun w_101 => some ((0, 0), (.inr w_101, h_96)))))))))))))))))
set_option maxHeartbeats 1000000 in
theorem W_X8_expr_L51 {l : Launch} {G : zGt} (htr : l.stackTraces = false) {Q : zQt} {mE wE : Nat} {cc : Nat × Nat} {ex_ : Nat → Int32 → zSt → Option ((Nat × Nat) × ((Option Nat ⊕ (String × Nat)) × zSt))} {o0 : Nat} {a0 : Int32} {o_17 : Nat} {h_18 : zSt} {fb lb : Nat} (hex : ∀ (o : Nat) (a : Int32) (h : zSt) (cc : Nat × Nat) (r : (Option Nat ⊕ (String × Nat)) × zSt), ex_ o a h = some (cc, r) → zMet l G yX8_expr (ws_ yX8_expr cX8_expr 3 (some (.object "SableCrown$Expr"))) fb lb cc.1 cc.2 [.ref o, .int a] (hK h) (jF h) (hI h) (hL h) (zQe (zor r.1) (hK r.2) (jF r.2) (hI r.2) (hL r.2))) {r : (Nat × zSt) ⊕ ((Nat × zSt) ⊕ ((Option Nat ⊕ (String × Nat)) × zSt))} (hF : F_X8_expr_L51 ex_ o0 a0 o_17 h_18 = some (cc, r)) (kl : ∀ (z0 : Nat) (z1 : zSt), r = .inl (z0, z1) → zW l G MX8_expr (fb + 16) (lb + 330) mE wE 51 [(0, .ref o0), (1, .int a0), (2, .ref z0)] [] (hK z1) (jF z1) (hI z1) (hL z1) Q) (kx : ∀ (y0 : Nat) (y1 : zSt), r = .inr (.inl (y0, y1)) → zW l G MX8_expr (fb + 16) (lb + 330) mE wE 83 [(2, .ref y0)] [] (hK y1) (jF y1) (hI y1) (hL y1) Q) (kq : ∀ z : (Option Nat ⊕ (String × Nat)) × zSt, r = .inr (.inr z) → Q (zor z.1) (hK z.2) (jF z.2) (hI z.2) (hL z.2)) : zW l G MX8_expr (fb + 16) (lb + 330) (cc.1 + mE) (cc.2 + wE) 51 [(0, .ref o0), (1, .int a0), (2, .ref o_17)] [] (hK h_18) (jF h_18) (hI h_18) (hL h_18) Q := by
  unfold F_X8_expr_L51 at hF
  refine z_aload_n (n := 52) dX8_expr_51 rfl 0 rfl rfl ?_
  obtain ⟨n_20, hk_19, hF⟩ := zka_some hF
  refine z_ldcS (n := 54) (j := 52) dX8_expr_52 rfl zlit_X8_235 (by first | decide | omega) (znn hk_19) ?_
  obtain ⟨n_21, hk_22, hF⟩ := zka_some hF
  obtain ⟨x_24, c_23, hF⟩ := zb1_some hF
  refine z_cV (n := 57) (mc2 := (cc.1 + mE)) (ms2 := (cc.2 + wE)) (st := []) (C_X8_is htr c_23) dX8_expr_54 rfl (lw_V q1078 q1080 qs15 q132 q1081) hcee_X8_is rfl (by first | decide | omega) hk_22 rfl rfl rfl (by first | exact Nat.le_of_ble_eq_true rfl | omega) (Nat.le_refl _) (Nat.le_refl _) ?_
  refine z_if_eq (n := 60) (t := 83) dX8_expr_57 rfl (by first | decide | omega) (fun hc => ?_) (fun hc => ?_)
  · replace hF := (if_pos hc).symm.trans hF
    refine z_sub [2] rfl ?_
    obtain ⟨rfl, rfl⟩ := zpair hF
    refine z_eq (Nat.zero_add _) (Nat.zero_add _) ?_
    exact kx o_17 h_18 rfl
  · replace hF := (if_neg hc).symm.trans hF
    refine z_aload_n (n := 61) dX8_expr_60 rfl 0 rfl rfl ?_
    obtain ⟨c_27, h_26, c_25, hF⟩ := zc1_some hF
    obtain ⟨cc, hF, hcc⟩ := zpay_some hF
    refine z_payE hcc ?_
    refine z_cV (n := 64) (mc2 := (cc.1 + mE)) (ms2 := (cc.2 + wE)) (st := []) (C_X8_go htr c_25) dX8_expr_61 rfl (lw_V q975 q977 qs13 q132 q978) hcee_X8_go rfl (by first | decide | omega) hk_22 rfl rfl rfl (by first | exact Nat.le_of_ble_eq_true rfl | omega) (Nat.le_of_eq (Nat.add_comm _ _)) (Nat.le_of_eq (Nat.add_comm _ _)) ?_
    obtain ⟨cc, hF, hcc⟩ := zpay_some hF
    refine z_payE hcc ?_
    obtain ⟨hn_28, hF⟩ := zg_some hF
    obtain ⟨o_31, e_32, hF⟩ := zlet_ob hF
    obtain ⟨h_29, e_30, hF⟩ := zlet_ob hF
    refine z_newT (n := 67) dX8_expr_64 rfl zok13 ⟨_, rfl, rfl, q1310⟩ q1309 q142 hn_28 e_32 e_30 rfl ?_
    refine z_dup (n := 68) dX8_expr_67 rfl rfl ?_
    refine z_bipush (n := 70) (v := 124) dX8_expr_68 rfl (by first | decide | omega) ?_
    refine z_aload_n (n := 71) dX8_expr_70 rfl 2 rfl rfl ?_
    refine z_aload_n (n := 72) dX8_expr_71 rfl 0 rfl rfl ?_
    refine z_iload_n (n := 73) dX8_expr_72 rfl 1 rfl rfl ?_
    obtain ⟨n_33, hk_34, hF⟩ := zka_some hF
    obtain ⟨c_38, t_39, c_35, hF⟩ := zc1_some hF
    obtain ⟨s_36, h_37⟩ := t_39
    dsimp only [zn2] at hF
    obtain ⟨cc, hF, hcc⟩ := zpay_some hF
    refine z_payE hcc ?_
    rcases zsum_some hF with ⟨q_41, e_40, hF⟩ | ⟨w_42, e_40, hF⟩
    rotate_left
    · first | rw [e_40] at c_35 ⊢ | rw [e_40] at c_35
      obtain ⟨rfl, rfl⟩ := zpair hF
      refine z_cVx (n := 76) (mc2 := (((0, 0) : Nat × Nat).1 + mE)) (ms2 := (((0, 0) : Nat × Nat).2 + wE)) (st := [.ref o_17, .int 124, .ref o_31, .ref o_31]) (C_X8_and htr hex c_35) dX8_expr_73 rfl (lw_V q1226 q1228 qs24 q132 q1229) hcee_X8_and rfl (by first | decide | omega) hk_34 rfl rfl rfl (by first | exact Nat.le_of_ble_eq_true rfl | omega) (Nat.le_of_eq (Nat.add_comm _ _)) (Nat.le_of_eq (Nat.add_comm _ _)) ?_
      exact z_out rfl (kq _ rfl)
    first | rw [e_40] at c_35 ⊢ | rw [e_40] at c_35
    refine z_cV (n := 76) (mc2 := (cc.1 + mE)) (ms2 := (cc.2 + wE)) (st := [.ref o_17, .int 124, .ref o_31, .ref o_31]) (C_X8_and htr hex c_35) dX8_expr_73 rfl (lw_V q1226 q1228 qs24 q132 q1229) hcee_X8_and rfl (by first | decide | omega) hk_34 rfl rfl rfl (by first | exact Nat.le_of_ble_eq_true rfl | omega) (Nat.le_of_eq (Nat.add_comm _ _)) (Nat.le_of_eq (Nat.add_comm _ _)) ?_
    obtain ⟨o_43, hr_44, hF⟩ := zb1_some hF
    rw [hr_44]
    obtain ⟨c_47, h_46, c_45, hF⟩ := zc1_some hF
    obtain ⟨cc, hF, hcc⟩ := zpay_some hF
    refine z_payE hcc ?_
    refine z_cI (n := 79) (mc2 := (cc.1 + mE)) (ms2 := (cc.2 + wE)) (st := [.ref o_31]) (C_X15_init htr c_45) dX8_expr_76 rfl q1313 q142 q1311 q1312 rfl hcee_X15_init rfl (by first | decide | omega) rfl (by first | exact Nat.le_of_ble_eq_true rfl | omega) (Nat.le_of_eq (Nat.add_comm _ _)) (Nat.le_of_eq (Nat.add_comm _ _)) ?_
    refine z_astore_nS (n := 80) (lv' := [(2, .ref o_31), (0, .ref o0), (1, .int a0)]) dX8_expr_79 rfl rfl (by first | decide | omega) rfl ?_
    refine z_goto (t := 51) dX8_expr_80 (by first | decide | omega) ?_
    refine z_sub [1, 2, 0] rfl ?_
    obtain ⟨rfl, rfl⟩ := zpair hF
    refine z_eq (Nat.zero_add _) (Nat.zero_add _) ?_
    exact kl o_31 h_46 rfl
set_option maxHeartbeats 1000000 in
theorem C_X8_expr {l : Launch} {G : zGt} (htr : l.stackTraces = false) {ex_ : Nat → Int32 → zSt → Option ((Nat × Nat) × ((Option Nat ⊕ (String × Nat)) × zSt))} {o0 : Nat} {a0 : Int32} {fb lb : Nat} (hex : ∀ (o : Nat) (a : Int32) (h : zSt) (cc : Nat × Nat) (r : (Option Nat ⊕ (String × Nat)) × zSt), ex_ o a h = some (cc, r) → zMet l G yX8_expr (ws_ yX8_expr cX8_expr 3 (some (.object "SableCrown$Expr"))) fb lb cc.1 cc.2 [.ref o, .int a] (hK h) (jF h) (hI h) (hL h) (zQe (zor r.1) (hK r.2) (jF r.2) (hI r.2) (hL r.2))) {h : zSt} {cc : Nat × Nat} {r : (Option Nat ⊕ (String × Nat)) × zSt} (hF : F_X8_expr ex_ o0 a0 h = some (cc, r)) : zMet l G yX8_expr (ws_ yX8_expr cX8_expr 3 (some (.object "SableCrown$Expr"))) (fb + 16) (lb + 330) (cc.1 + 0) (cc.2 + 0) [.ref o0, .int a0] (hK h) (jF h) (hI h) (hL h) (zQe (zor r.1) (hK r.2) (jF r.2) (hI r.2) (hL r.2)) := by
  refine zMet.of (by decide +kernel) htr (by first | exact Nat.le_of_ble_eq_true rfl | omega) ?_
  change zW l G MX8_expr (fb + 16) (lb + 330) (cc.1 + 0) (cc.2 + 0) 0 [(0, .ref o0), (1, .int a0)] [] (hK h) (jF h) (hI h) (hL h) (zQe (zor r.1) (hK r.2) (jF r.2) (hI r.2) (hL r.2))
  unfold F_X8_expr at hF
  refine z_iload_n (n := 1) dX8_expr_0 rfl 1 rfl rfl ?_
  refine z_bipush (n := 3) (v := 6) dX8_expr_1 rfl (by first | decide | omega) ?_
  obtain ⟨k_2, e_3, hF⟩ := zlet_ob hF
  have H_4 : ∀ (h_1 : zSt) (cc : Nat × Nat), k_2 h_1 = some (cc, r) → zW l G MX8_expr (fb + 16) (lb + 330) (cc.1 + 0) (cc.2 + 0) 45 [(0, .ref o0), (1, .int a0)] [] (hK h_1) (jF h_1) (hI h_1) (hL h_1) (zQe (zor r.1) (hK r.2) (jF r.2) (hI r.2) (hL r.2)) := by
    intro h_1 cc hF
    subst e_3
    dsimp only at hF
    refine z_aload_n (n := 46) dX8_expr_45 rfl 0 rfl rfl ?_
    refine z_iload_n (n := 47) dX8_expr_46 rfl 1 rfl rfl ?_
    obtain ⟨n_5, hk_6, hF⟩ := zka_some hF
    obtain ⟨c_10, t_11, c_7, hF⟩ := zc1_some hF
    obtain ⟨s_8, h_9⟩ := t_11
    dsimp only [zn2] at hF
    obtain ⟨cc, hF, hcc⟩ := zpay_some hF
    refine z_payE hcc ?_
    rcases zsum_some hF with ⟨q_13, e_12, hF⟩ | ⟨w_14, e_12, hF⟩
    rotate_left
    · first | rw [e_12] at c_7 ⊢ | rw [e_12] at c_7
      obtain ⟨rfl, rfl⟩ := zpair hF
      refine z_cVx (n := 50) (mc2 := (((0, 0) : Nat × Nat).1 + 0)) (ms2 := (((0, 0) : Nat × Nat).2 + 0)) (st := []) (C_X8_and htr hex c_7) dX8_expr_47 rfl (lw_V q1226 q1228 qs24 q132 q1229) hcee_X8_and rfl (by first | decide | omega) hk_6 rfl rfl rfl (by first | exact Nat.le_of_ble_eq_true rfl | omega) (Nat.le_of_eq (Nat.add_comm _ _)) (Nat.le_of_eq (Nat.add_comm _ _)) ?_
      exact z_out rfl ⟨rfl, rfl, rfl, rfl, rfl⟩
    first | rw [e_12] at c_7 ⊢ | rw [e_12] at c_7
    refine z_cV (n := 50) (mc2 := (cc.1 + 0)) (ms2 := (cc.2 + 0)) (st := []) (C_X8_and htr hex c_7) dX8_expr_47 rfl (lw_V q1226 q1228 qs24 q132 q1229) hcee_X8_and rfl (by first | decide | omega) hk_6 rfl rfl rfl (by first | exact Nat.le_of_ble_eq_true rfl | omega) (Nat.le_of_eq (Nat.add_comm _ _)) (Nat.le_of_eq (Nat.add_comm _ _)) ?_
    obtain ⟨o_15, hr_16, hF⟩ := zb1_some hF
    rw [hr_16]
    refine z_astore_nS (n := 51) (lv' := [(2, .ref o_15), (0, .ref o0), (1, .int a0)]) dX8_expr_50 rfl rfl (by first | decide | omega) rfl ?_
    refine z_sub [1, 2, 0] rfl ?_
    rcases zcs_some hF with ⟨c_51, t_52, e_50, hF⟩ | ⟨c_51, t_52, e_50, hF⟩
    · skip
      obtain ⟨cc, hF, hcc⟩ := zpay_some hF
      obtain ⟨o_48, h_49⟩ := t_52
      dsimp only [zn2] at hF
      have H_53 : zW l G MX8_expr (fb + 16) (lb + 330) (cc.1 + 0) (cc.2 + 0) 83 [(2, .ref o_48)] [] (hK h_49) (jF h_49) (hI h_49) (hL h_49) (zQe (zor r.1) (hK r.2) (jF r.2) (hI r.2) (hL r.2)) := by
        refine z_aload_n (n := 84) dX8_expr_83 rfl 0 rfl rfl ?_
        obtain ⟨rfl, rfl⟩ := zpair hF
        exact z_aret (r := (some o_48)) dX8_expr_84 rfl (Or.inl ⟨_, rfl⟩) ⟨rfl, rfl, rfl, rfl, rfl⟩
      refine z_payE hcc ?_
      refine zloopC_ind (P := fun (s : Nat × zSt) m w => zW l G MX8_expr (fb + 16) (lb + 330) (m + (cc.1 + 0)) (w + (cc.2 + 0)) 51 [(0, .ref o0), (1, .int a0), (2, .ref s.1)] [] (hK s.2) (jF s.2) (hI s.2) (hL s.2) (zQe (zor r.1) (hK r.2) (jF r.2) (hI r.2) (hL r.2))) (fun s c r E9 W9 hb kl kr => ?_) e_50
      refine z_eq (Nat.add_assoc _ _ _) (Nat.add_assoc _ _ _) ?_
      exact W_X8_expr_L51 (ex_ := ex_) (o0 := o0) (a0 := a0) htr hex hb (fun z0 z1 e => kl _ e) (fun y0 y1 e => by obtain ⟨h1, rfl, rfl⟩ := kr _ e; cases h1; exact z_eq (Nat.zero_add _) (Nat.zero_add _) H_53) (fun z e => by have h1 := (kr _ e).1; cases h1)
    · skip
      obtain ⟨cc, hF, hcc⟩ := zpay_some hF
      obtain ⟨h9, hq⟩ := zpair hF
      subst h9
      refine z_payE hcc ?_
      refine zloopC_ind (P := fun (s : Nat × zSt) m w => zW l G MX8_expr (fb + 16) (lb + 330) (m + (((0, 0) : Nat × Nat).1 + 0)) (w + (((0, 0) : Nat × Nat).2 + 0)) 51 [(0, .ref o0), (1, .int a0), (2, .ref s.1)] [] (hK s.2) (jF s.2) (hI s.2) (hL s.2) (zQe (zor r.1) (hK r.2) (jF r.2) (hI r.2) (hL r.2))) (fun s c r E9 W9 hb kl kr => ?_) e_50
      refine z_eq (Nat.add_assoc _ _ _) (Nat.add_assoc _ _ _) ?_
      exact W_X8_expr_L51 (ex_ := ex_) (o0 := o0) (a0 := a0) htr hex hb (fun z0 z1 e => kl _ e) (fun y0 y1 e => by have h1 := (kr _ e).1; cases h1) (fun z e => by have h1 := (kr _ e).1; cases h1; subst hq; exact ⟨rfl, rfl, rfl, rfl, rfl⟩)
  clear e_3
  refine z_icmp_lt (n := 6) (t := 45) dX8_expr_3 rfl (by first | decide | omega) (fun hc => ?_) (fun hc => ?_)
  · replace hF := (if_pos hc).symm.trans hF
    exact H_4 h _ hF
  · replace hF := (if_neg hc).symm.trans hF
    refine z_aload_n (n := 7) dX8_expr_6 rfl 0 rfl rfl ?_
    refine z_aload_n (n := 8) dX8_expr_7 rfl 0 rfl rfl ?_
    obtain ⟨n_55, hk_56, hF⟩ := zka_some hF
    obtain ⟨hb_57, hF⟩ := zg_some hF
    obtain ⟨o_58, hr_59, hF⟩ := zb1_some hF
    refine z_getRS (n := 11) dX8_expr_8 rfl zok7 fX8_52_7 rfl hk_56 (Or.inl (zbig hb_57)) hr_59 ?_
    obtain ⟨hk_60, hF⟩ := zg_some hF
    refine z_gets (n := 14) (v := .ref 1) dX8_expr_11 rfl zst_Sort_NUMBER q1019 (fun j h => by cases h; exact ⟨by decide, zsome hk_60⟩) ?_
    obtain ⟨hz_61, hF⟩ := zg_some hF
    refine z_acmp_eq (r1 := (some o_58)) (r2 := (some 1)) (n := 17) (t := 40) dX8_expr_14 rfl (by first | decide | omega) (zcmpok_ok hz_61) (fun hc => ?_) (fun hc => ?_)
    · replace hF := (if_pos hc).symm.trans hF
      refine z_iconst (n := 41) (v := 0) dX8_expr_40 rfl (by first | decide | omega) ?_
      refine z_iconst (n := 42) (v := 2) dX8_expr_41 rfl (by first | decide | omega) ?_
      obtain ⟨c_65, t_66, c_62, hF⟩ := zc1_some hF
      obtain ⟨s_63, h_64⟩ := t_66
      dsimp only [zn2] at hF
      obtain ⟨cc, hF, hcc⟩ := zpay_some hF
      refine z_payE hcc ?_
      rcases zsum_some hF with ⟨x_68, e_67, hF⟩ | ⟨w_69, e_67, hF⟩
      rotate_left
      · first | rw [e_67] at c_62 ⊢ | rw [e_67] at c_62
        obtain ⟨rfl, rfl⟩ := zpair hF
        refine z_cVx (n := 45) (mc2 := (((0, 0) : Nat × Nat).1 + 0)) (ms2 := (((0, 0) : Nat × Nat).2 + 0)) (st := []) (C_X8_check htr c_62) dX8_expr_42 rfl (lw_V q1090 q1092 qs16 q132 q1093) hcee_X8_check rfl (by first | decide | omega) hk_56 rfl rfl rfl (by first | exact Nat.le_of_ble_eq_true rfl | omega) (Nat.le_of_eq (Nat.add_comm _ _)) (Nat.le_of_eq (Nat.add_comm _ _)) ?_
        exact z_out rfl ⟨rfl, rfl, rfl, rfl, rfl⟩
      first | rw [e_67] at c_62 ⊢ | rw [e_67] at c_62
      refine z_cV (n := 45) (mc2 := (cc.1 + 0)) (ms2 := (cc.2 + 0)) (st := []) (C_X8_check htr c_62) dX8_expr_42 rfl (lw_V q1090 q1092 qs16 q132 q1093) hcee_X8_check rfl (by first | decide | omega) hk_56 rfl rfl rfl (by first | exact Nat.le_of_ble_eq_true rfl | omega) (Nat.le_of_eq (Nat.add_comm _ _)) (Nat.le_of_eq (Nat.add_comm _ _)) ?_
      exact H_4 h_64 _ hF
    · replace hF := (if_neg hc).symm.trans hF
      refine z_aload_n (n := 18) dX8_expr_17 rfl 0 rfl rfl ?_
      obtain ⟨o_70, hr_71, hF⟩ := zb1_some hF
      refine z_getRS (n := 21) dX8_expr_18 rfl zok7 fX8_52_7 rfl hk_56 (Or.inl (zbig hb_57)) hr_71 ?_
      obtain ⟨hk_72, hF⟩ := zg_some hF
      refine z_gets (n := 24) (v := .ref 0) dX8_expr_21 rfl zst_Sort_WORD q1014 (fun j h => by cases h; exact ⟨by decide, zsome hk_72⟩) ?_
      obtain ⟨hz_73, hF⟩ := zg_some hF
      refine z_acmp_eq (r1 := (some o_70)) (r2 := (some 0)) (n := 27) (t := 40) dX8_expr_24 rfl (by first | decide | omega) (zcmpok_ok hz_73) (fun hc => ?_) (fun hc => ?_)
      · replace hF := (if_pos hc).symm.trans hF
        refine z_iconst (n := 41) (v := 0) dX8_expr_40 rfl (by first | decide | omega) ?_
        refine z_iconst (n := 42) (v := 2) dX8_expr_41 rfl (by first | decide | omega) ?_
        obtain ⟨c_77, t_78, c_74, hF⟩ := zc1_some hF
        obtain ⟨s_75, h_76⟩ := t_78
        dsimp only [zn2] at hF
        obtain ⟨cc, hF, hcc⟩ := zpay_some hF
        refine z_payE hcc ?_
        rcases zsum_some hF with ⟨x_80, e_79, hF⟩ | ⟨w_81, e_79, hF⟩
        rotate_left
        · first | rw [e_79] at c_74 ⊢ | rw [e_79] at c_74
          obtain ⟨rfl, rfl⟩ := zpair hF
          refine z_cVx (n := 45) (mc2 := (((0, 0) : Nat × Nat).1 + 0)) (ms2 := (((0, 0) : Nat × Nat).2 + 0)) (st := []) (C_X8_check htr c_74) dX8_expr_42 rfl (lw_V q1090 q1092 qs16 q132 q1093) hcee_X8_check rfl (by first | decide | omega) hk_56 rfl rfl rfl (by first | exact Nat.le_of_ble_eq_true rfl | omega) (Nat.le_of_eq (Nat.add_comm _ _)) (Nat.le_of_eq (Nat.add_comm _ _)) ?_
          exact z_out rfl ⟨rfl, rfl, rfl, rfl, rfl⟩
        first | rw [e_79] at c_74 ⊢ | rw [e_79] at c_74
        refine z_cV (n := 45) (mc2 := (cc.1 + 0)) (ms2 := (cc.2 + 0)) (st := []) (C_X8_check htr c_74) dX8_expr_42 rfl (lw_V q1090 q1092 qs16 q132 q1093) hcee_X8_check rfl (by first | decide | omega) hk_56 rfl rfl rfl (by first | exact Nat.le_of_ble_eq_true rfl | omega) (Nat.le_of_eq (Nat.add_comm _ _)) (Nat.le_of_eq (Nat.add_comm _ _)) ?_
        exact H_4 h_76 _ hF
      · replace hF := (if_neg hc).symm.trans hF
        refine z_aload_n (n := 28) dX8_expr_27 rfl 0 rfl rfl ?_
        obtain ⟨n_83, hk_82, hF⟩ := zka_some hF
        refine z_ldcS (n := 30) (j := 50) dX8_expr_28 rfl zlit_X8_230 (by first | decide | omega) (znn hk_82) ?_
        obtain ⟨x_85, c_84, hF⟩ := zb1_some hF
        refine z_cV (n := 33) (mc2 := (cc.1 + 0)) (ms2 := (cc.2 + 0)) (st := [.ref o0]) (C_X8_is htr c_84) dX8_expr_30 rfl (lw_V q1078 q1080 qs15 q132 q1081) hcee_X8_is rfl (by first | decide | omega) hk_56 rfl rfl rfl (by first | exact Nat.le_of_ble_eq_true rfl | omega) (Nat.le_refl _) (Nat.le_refl _) ?_
        refine z_if_ne (n := 36) (t := 40) dX8_expr_33 rfl (by first | decide | omega) (fun hc => ?_) (fun hc => ?_)
        · replace hF := (if_pos hc).symm.trans hF
          refine z_iconst (n := 41) (v := 0) dX8_expr_40 rfl (by first | decide | omega) ?_
          refine z_iconst (n := 42) (v := 2) dX8_expr_41 rfl (by first | decide | omega) ?_
          obtain ⟨c_89, t_90, c_86, hF⟩ := zc1_some hF
          obtain ⟨s_87, h_88⟩ := t_90
          dsimp only [zn2] at hF
          obtain ⟨cc, hF, hcc⟩ := zpay_some hF
          refine z_payE hcc ?_
          rcases zsum_some hF with ⟨x_92, e_91, hF⟩ | ⟨w_93, e_91, hF⟩
          rotate_left
          · first | rw [e_91] at c_86 ⊢ | rw [e_91] at c_86
            obtain ⟨rfl, rfl⟩ := zpair hF
            refine z_cVx (n := 45) (mc2 := (((0, 0) : Nat × Nat).1 + 0)) (ms2 := (((0, 0) : Nat × Nat).2 + 0)) (st := []) (C_X8_check htr c_86) dX8_expr_42 rfl (lw_V q1090 q1092 qs16 q132 q1093) hcee_X8_check rfl (by first | decide | omega) hk_56 rfl rfl rfl (by first | exact Nat.le_of_ble_eq_true rfl | omega) (Nat.le_of_eq (Nat.add_comm _ _)) (Nat.le_of_eq (Nat.add_comm _ _)) ?_
            exact z_out rfl ⟨rfl, rfl, rfl, rfl, rfl⟩
          first | rw [e_91] at c_86 ⊢ | rw [e_91] at c_86
          refine z_cV (n := 45) (mc2 := (cc.1 + 0)) (ms2 := (cc.2 + 0)) (st := []) (C_X8_check htr c_86) dX8_expr_42 rfl (lw_V q1090 q1092 qs16 q132 q1093) hcee_X8_check rfl (by first | decide | omega) hk_56 rfl rfl rfl (by first | exact Nat.le_of_ble_eq_true rfl | omega) (Nat.le_of_eq (Nat.add_comm _ _)) (Nat.le_of_eq (Nat.add_comm _ _)) ?_
          exact H_4 h_88 _ hF
        · replace hF := (if_neg hc).symm.trans hF
          refine z_iconst (n := 37) (v := 1) dX8_expr_36 rfl (by first | decide | omega) ?_
          refine z_goto (t := 41) dX8_expr_37 (by first | decide | omega) ?_
          refine z_iconst (n := 42) (v := 2) dX8_expr_41 rfl (by first | decide | omega) ?_
          obtain ⟨c_97, t_98, c_94, hF⟩ := zc1_some hF
          obtain ⟨s_95, h_96⟩ := t_98
          dsimp only [zn2] at hF
          obtain ⟨cc, hF, hcc⟩ := zpay_some hF
          refine z_payE hcc ?_
          rcases zsum_some hF with ⟨x_100, e_99, hF⟩ | ⟨w_101, e_99, hF⟩
          rotate_left
          · first | rw [e_99] at c_94 ⊢ | rw [e_99] at c_94
            obtain ⟨rfl, rfl⟩ := zpair hF
            refine z_cVx (n := 45) (mc2 := (((0, 0) : Nat × Nat).1 + 0)) (ms2 := (((0, 0) : Nat × Nat).2 + 0)) (st := []) (C_X8_check htr c_94) dX8_expr_42 rfl (lw_V q1090 q1092 qs16 q132 q1093) hcee_X8_check rfl (by first | decide | omega) hk_56 rfl rfl rfl (by first | exact Nat.le_of_ble_eq_true rfl | omega) (Nat.le_of_eq (Nat.add_comm _ _)) (Nat.le_of_eq (Nat.add_comm _ _)) ?_
            exact z_out rfl ⟨rfl, rfl, rfl, rfl, rfl⟩
          first | rw [e_99] at c_94 ⊢ | rw [e_99] at c_94
          refine z_cV (n := 45) (mc2 := (cc.1 + 0)) (ms2 := (cc.2 + 0)) (st := []) (C_X8_check htr c_94) dX8_expr_42 rfl (lw_V q1090 q1092 qs16 q132 q1093) hcee_X8_check rfl (by first | decide | omega) hk_56 rfl rfl rfl (by first | exact Nat.le_of_ble_eq_true rfl | omega) (Nat.le_of_eq (Nat.add_comm _ _)) (Nat.le_of_eq (Nat.add_comm _ _)) ?_
          exact H_4 h_96 _ hF
noncomputable def F_expr : Nat → Nat → Int32 → zSt → Option ((Nat × Nat) × ((Option Nat ⊕ (String × Nat)) × zSt))
  | 0, _, _, _ => none
  | d + 1, o, a, h => F_X8_expr (F_expr d) o a h
theorem C_expr {l : Launch} {G : zGt} (htr : l.stackTraces = false) : ∀ (d : Nat) (o : Nat) (a : Int32) (h : zSt) (cc : Nat × Nat) (r : (Option Nat ⊕ (String × Nat)) × zSt), F_expr d o a h = some (cc, r) → zMet l G yX8_expr (ws_ yX8_expr cX8_expr 3 (some (.object "SableCrown$Expr"))) (16 * d) (330 * d) cc.1 cc.2 [.ref o, .int a] (hK h) (jF h) (hI h) (hL h) (zQe (zor r.1) (hK r.2) (jF r.2) (hI r.2) (hL r.2)) := by
  intro d
  induction d with
  | zero => intro o a h cc r e; cases e
  | succ d ih =>
    intro o a h cc r e
    exact C_X8_expr htr (fb := 16 * d) (lb := 330 * d) ih e
theorem fX8_158_1 : zFld RX8 158 1 5 := ⟨_, rfl, by decide, _, Or.inr ⟨_, q543⟩, Or.inl rfl⟩
theorem fX8_182_1 : zFld RX8 182 1 0 := ⟨_, rfl, by decide, _, Or.inr ⟨_, q525⟩, Or.inl rfl⟩
theorem fX8_186_1 : zFld RX8 186 1 1 := ⟨_, rfl, by decide, _, Or.inr ⟨_, q529⟩, Or.inl rfl⟩
theorem fX8_190_1 : zFld RX8 190 1 2 := ⟨_, rfl, by decide, _, Or.inr ⟨_, q533⟩, Or.inl rfl⟩
theorem fX8_198_1 : zFld RX8 198 1 9 := ⟨_, rfl, by decide, _, Or.inr ⟨_, q551⟩, Or.inl rfl⟩
theorem hcee_X10_init : zCee yX10_init RX10 4 := ⟨rfl, by decide +kernel, by decide +kernel, by decide +kernel⟩
theorem hcee_X11_init : zCee yX11_init RX11 3 := ⟨rfl, by decide +kernel, by decide +kernel, by decide +kernel⟩
theorem hcee_X2_init : zCee yX2_init RX2 0 := ⟨rfl, by decide +kernel, by decide +kernel, by decide +kernel⟩
theorem hcee_X2_measures : zCee yX2_measures RX2 0 := ⟨rfl, by decide +kernel, by decide +kernel, by decide +kernel⟩
theorem hcee_X8_begins : zCee yX8_begins RX8 2 := ⟨rfl, by decide +kernel, by decide +kernel, by decide +kernel⟩
theorem hcee_X8_fort : zCee yX8_fort RX8 1 := ⟨rfl, by decide +kernel, by decide +kernel, by decide +kernel⟩
theorem hcee_X8_river : zCee yX8_river RX8 1 := ⟨rfl, by decide +kernel, by decide +kernel, by decide +kernel⟩
theorem zlit_X8_126 : ((RX8, 126, "forest", 32) : String × Nat × String × Nat) ∈ zLit := List.mem_of_getElem? (i := 1) rfl
theorem zlit_X8_148 : ((RX8, 148, "river", 34) : String × Nat × String × Nat) ∈ zLit := List.mem_of_getElem? (i := 2) rfl
theorem zlit_X8_156 : ((RX8, 156, "band", 36) : String × Nat × String × Nat) ∈ zLit := List.mem_of_getElem? (i := 3) rfl
theorem zlit_X8_169 : ((RX8, 169, "fort", 38) : String × Nat × String × Nat) ∈ zLit := List.mem_of_getElem? (i := 4) rfl
theorem zlit_X8_176 : ((RX8, 176, "tax", 40) : String × Nat × String × Nat) ∈ zLit := List.mem_of_getElem? (i := 5) rfl
theorem zlit_X8_184 : ((RX8, 184, "fox", 42) : String × Nat × String × Nat) ∈ zLit := List.mem_of_getElem? (i := 6) rfl
theorem zlit_X8_188 : ((RX8, 188, "limit", 44) : String × Nat × String × Nat) ∈ zLit := List.mem_of_getElem? (i := 7) rfl
theorem zlit_X8_192 : ((RX8, 192, "hunts", 46) : String × Nat × String × Nat) ∈ zLit := List.mem_of_getElem? (i := 8) rfl
theorem zlit_X8_201 : ((RX8, 201, ";", 48) : String × Nat × String × Nat) ∈ zLit := List.mem_of_getElem? (i := 9) rfl
abbrev MX8_land : zM := (RX8, cX8_land, 5, (some (.object "SableCrown$Land")), "land", [])
noncomputable def F_X8_land_L8 (o0 : Nat) (o_4 : Nat) (h_9 : zSt) : Option ((Nat × Nat) × ((zSt) ⊕ ((zSt) ⊕ ((Option Nat ⊕ (String × Nat)) × zSt)))) := zka (hK h_9) o0 7 (fun n_10 => zg (decide (600 ≤ o0)) (zb1 ((jF h_9) o0 6) (fun o_13 => zg ((hK h_9) 4).isSome (zg (zcmpok (some o_13) (some 4)) (if (some o_13) = (some 4) then some ((0, 0), .inr (.inl h_9)) else zka (hK h_9) 32 15 (fun n_18 => zb1 (F_X8_is (hK h_9) (jF h_9) o0 32 (hI h_9)) (fun x_20 => zlet (fun (h_21 : zSt) => zka (hK h_21) 48 15 (fun n_26 => zka (hK h_21) o0 7 (fun n_27 => zc1 (F_X8_need o0 48 h_21) (fun c_32 => zn2 (fun s_30 h_31 => zpay c_32 (zsum s_30 (fun x_35 => some ((0, 0), .inl h_31)) (fun w_36 => some ((0, 0), .inr (.inr (.inr w_36, h_31)))))))))) (fun k_22 => if x_20 = 0 then zka (hK h_9) 34 15 (fun n_38 => zb1 (F_X8_is (hK h_9) (jF h_9) o0 34 (hI h_9)) (fun x_40 => if x_40 = 0 then zka (hK h_9) 36 15 (fun n_42 => zb1 (F_X8_is (hK h_9) (jF h_9) o0 36 (hI h_9)) (fun x_44 => if x_44 = 0 then zka (hK h_9) 38 15 (fun n_46 => zb1 (F_X8_is (hK h_9) (jF h_9) o0 38 (hI h_9)) (fun x_48 => if x_48 = 0 then zka (hK h_9) 40 15 (fun n_50 => zc1 (F_X8_begins o0 40 0 h_9) (fun c_54 => zn2 (fun s_52 h_53 => zpay c_54 (zsum s_52 (fun x_57 => if x_57 = 0 then zka (hK h_53) 42 15 (fun n_60 => zka (hK h_53) o0 7 (fun n_61 => zc1 (F_X8_begins o0 42 1 h_53) (fun c_66 => zn2 (fun s_64 h_65 => zpay c_66 (zsum s_64 (fun x_69 => if x_69 = 0 then zka (hK h_65) 44 15 (fun n_72 => zka (hK h_65) o0 7 (fun n_73 => zc1 (F_X8_begins o0 44 2 h_65) (fun c_78 => zn2 (fun s_76 h_77 => zpay c_78 (zsum s_76 (fun x_81 => if x_81 = 0 then zka (hK h_77) 46 15 (fun n_84 => zka (hK h_77) o0 7 (fun n_85 => zc1 (F_X8_begins o0 46 3 h_77) (fun c_90 => zn2 (fun s_88 h_89 => zpay c_90 (zsum s_88 (fun x_93 => if x_93 = 0 then zka (hK h_89) o0 7 (fun n_95 => zc1 (F_X8_check o0 0 1 h_89) (fun c_100 => zn2 (fun s_98 h_99 => zpay c_100 (zsum s_98 (fun x_103 => k_22 h_99) (fun w_104 => some ((0, 0), .inr (.inr (.inr w_104, h_99)))))))) else zka (hK h_89) o0 7 (fun n_105 => zc1 (F_expr 64 o0 0 h_89) (fun c_110 => zn2 (fun s_108 h_109 => zpay c_110 (zsum s_108 (fun q_113 => zb1 q_113 (fun o_115 => zka (hK h_109) o_4 1 (fun n_117 => zg (decide (600 ≤ o_4)) (zlet (zsF h_109 (zu (jF h_109) o_4 9 (some o_115))) (fun h_120 => k_22 h_120))))) (fun w_114 => some ((0, 0), .inr (.inr (.inr w_114, h_109))))))))) (fun w_94 => some ((0, 0), .inr (.inr (.inr w_94, h_89))))))))) else zka (hK h_77) o0 7 (fun n_122 => zc1 (F_X8_number o0 0 99 h_77) (fun c_127 => zn2 (fun s_125 h_126 => zpay c_127 (zsum s_125 (fun x_130 => zka (hK h_126) o_4 1 (fun n_132 => zg (decide (600 ≤ o_4)) (zlet (zsI h_126 (zu (hI h_126) o_4 2 x_130)) (fun h_135 => k_22 h_135)))) (fun w_131 => some ((0, 0), .inr (.inr (.inr w_131, h_126))))))))) (fun w_82 => some ((0, 0), .inr (.inr (.inr w_82, h_77))))))))) else zka (hK h_65) o0 7 (fun n_137 => zc1 (F_X8_number o0 1 9 h_65) (fun c_142 => zn2 (fun s_140 h_141 => zpay c_142 (zsum s_140 (fun x_145 => zka (hK h_141) o_4 1 (fun n_147 => zg (decide (600 ≤ o_4)) (zlet (zsI h_141 (zu (hI h_141) o_4 1 x_145)) (fun h_150 => k_22 h_150)))) (fun w_146 => some ((0, 0), .inr (.inr (.inr w_146, h_141))))))))) (fun w_70 => some ((0, 0), .inr (.inr (.inr w_70, h_65))))))))) else zka (hK h_53) o0 7 (fun n_152 => zc1 (F_X8_number o0 0 9 h_53) (fun c_157 => zn2 (fun s_155 h_156 => zpay c_157 (zsum s_155 (fun x_160 => zka (hK h_156) o_4 1 (fun n_162 => zg (decide (600 ≤ o_4)) (zlet (zsI h_156 (zu (hI h_156) o_4 0 x_160)) (fun h_165 => k_22 h_165)))) (fun w_161 => some ((0, 0), .inr (.inr (.inr w_161, h_156))))))))) (fun w_58 => some ((0, 0), .inr (.inr (.inr w_58, h_53)))))))) else zka (hK h_9) o_4 1 (fun n_167 => zg (decide (600 ≤ o_4)) (zb1 ((jF h_9) o_4 6) (fun o_170 => zka (hK h_9) o_170 2 (fun n_172 => zb1 (F_J2_size (hK h_9) (jF h_9) o_170 (hI h_9)) (fun x_175 => zlet (fun (w_176 : Int32) => zc1 (F_X8_check o0 w_176 2 h_9) (fun c_183 => zn2 (fun s_181 h_182 => zpay c_183 (zsum s_181 (fun x_186 => zka (hK h_182) o0 7 (fun n_188 => zc1 (F_X8_go o0 h_182) (fun c_192 h_191 => zpay c_192 (zka (hK h_191) o0 7 (fun n_193 => zc1 (F_X8_fort o0 o_4 h_191) (fun c_198 => zn2 (fun s_196 h_197 => zpay c_198 (zsum s_196 (fun x_201 => k_22 h_197) (fun w_202 => some ((0, 0), .inr (.inr (.inr w_202, h_197)))))))))))) (fun w_187 => some ((0, 0), .inr (.inr (.inr w_187, h_182)))))))) (fun k_177 => if 3 ≤ x_175 then k_177 0 else k_177 1)))))))) else zka (hK h_9) o_4 1 (fun n_203 => zg (decide (600 ≤ o_4)) (zb1 ((jF h_9) o_4 5) (fun o_206 => zka (hK h_9) o_206 2 (fun n_208 => zb1 (F_J2_size (hK h_9) (jF h_9) o_206 (hI h_9)) (fun x_211 => zlet (fun (w_212 : Int32) => zc1 (F_X8_check o0 w_212 2 h_9) (fun c_219 => zn2 (fun s_217 h_218 => zpay c_219 (zsum s_217 (fun x_222 => zka (hK h_218) o0 7 (fun n_224 => zc1 (F_X8_go o0 h_218) (fun c_228 h_227 => zpay c_228 (zka (hK h_227) o0 7 (fun n_229 => zc1 (F_X8_number o0 1 30 h_227) (fun c_234 => zn2 (fun s_232 h_233 => zpay c_234 (zsum s_232 (fun x_237 => zka (hK h_233) o_4 1 (fun n_239 => zb1 ((jF h_233) o_4 4) (fun o_241 => zka (hK h_233) o_241 2 (fun n_243 => zb1 (F_J2_size (hK h_233) (jF h_233) o_241 (hI h_233)) (fun x_246 => zka (hK h_233) o0 7 (fun n_247 => zc1 (F_X8_among o0 x_246 h_233) (fun c_252 => zn2 (fun s_250 h_251 => zpay c_252 (zsum s_250 (fun x_255 => zka (hK h_251) o_4 1 (fun n_257 => zb1 ((jF h_251) o_4 5) (fun o_259 => zpay (1, 3) (zg (zfree h_251) (zlet (hN h_251) (fun o_264 => zlet (znA h_251 10 0) (fun h_262 => zka (hK h_262) o0 7 (fun n_266 => zc1 (F_X8_number o0 0 30 h_262) (fun c_271 => zn2 (fun s_269 h_270 => zpay c_271 (zsum s_269 (fun x_274 => zc1 (F_X11_init o_264 x_237 x_255 x_274 h_270) (fun c_278 h_277 => zpay c_278 (zka (hK h_277) o_259 2 (fun n_279 => zc1 (F_J2_add o_259 o_264 h_277) (fun c_284 => zn2 (fun x_282 h_283 => zpay c_284 (k_22 h_283))))))) (fun w_275 => some ((0, 0), .inr (.inr (.inr w_275, h_270))))))))))))))) (fun w_256 => some ((0, 0), .inr (.inr (.inr w_256, h_251))))))))))))) (fun w_238 => some ((0, 0), .inr (.inr (.inr w_238, h_233)))))))))))) (fun w_223 => some ((0, 0), .inr (.inr (.inr w_223, h_218)))))))) (fun k_213 => if 6 ≤ x_211 then k_213 0 else k_213 1)))))))) else zka (hK h_9) o_4 1 (fun n_286 => zg (decide (600 ≤ o_4)) (zlet (fun (w_289 : Int32) => zc1 (F_X8_check o0 w_289 2 h_9) (fun c_296 => zn2 (fun s_294 h_295 => zpay c_296 (zsum s_294 (fun x_299 => zka (hK h_295) o0 7 (fun n_301 => zc1 (F_X8_go o0 h_295) (fun c_305 h_304 => zpay c_305 (zka (hK h_304) o0 7 (fun n_306 => zc1 (F_X8_river o0 o_4 h_304) (fun c_311 => zn2 (fun s_309 h_310 => zpay c_311 (zsum s_309 (fun x_314 => k_22 h_310) (fun w_315 => some ((0, 0), .inr (.inr (.inr w_315, h_310)))))))))))) (fun w_300 => some ((0, 0), .inr (.inr (.inr w_300, h_295)))))))) (fun k_290 => if 12 ≤ ((hI h_9) o_4 3) then k_290 0 else k_290 1))))) else zka (hK h_9) o_4 1 (fun n_316 => zg (decide (600 ≤ o_4)) (zb1 ((jF h_9) o_4 4) (fun o_319 => zka (hK h_9) o_319 2 (fun n_321 => zb1 (F_J2_size (hK h_9) (jF h_9) o_319 (hI h_9)) (fun x_324 => zlet (fun (w_325 : Int32) => zc1 (F_X8_check o0 w_325 2 h_9) (fun c_332 => zn2 (fun s_330 h_331 => zpay c_332 (zsum s_330 (fun x_335 => zka (hK h_331) o0 7 (fun n_337 => zc1 (F_X8_go o0 h_331) (fun c_341 h_340 => zpay c_341 (zka (hK h_340) o0 7 (fun n_342 => zc1 (F_X8_number o0 0 999 h_340) (fun c_347 => zn2 (fun s_345 h_346 => zpay c_347 (zsum s_345 (fun x_350 => zka (hK h_346) o0 7 (fun n_352 => zc1 (F_X8_number o0 0 x_350 h_346) (fun c_357 => zn2 (fun s_355 h_356 => zpay c_357 (zsum s_355 (fun x_360 => zka (hK h_356) o0 7 (fun n_362 => zc1 (F_X8_number o0 1 999 h_356) (fun c_367 => zn2 (fun s_365 h_366 => zpay c_367 (zsum s_365 (fun x_370 => zka (hK h_366) o_4 1 (fun n_372 => zb1 ((jF h_366) o_4 4) (fun o_374 => zpay (1, 4) (zg (zfree h_366) (zlet (hN h_366) (fun o_379 => zlet (znA h_366 9 0) (fun h_377 => zka (hK h_377) o0 7 (fun n_381 => zc1 (F_X8_number o0 0 99 h_377) (fun c_386 => zn2 (fun s_384 h_385 => zpay c_386 (zsum s_384 (fun x_389 => zc1 (F_X10_init o_379 x_350 x_360 x_370 x_389 h_385) (fun c_393 h_392 => zpay c_393 (zka (hK h_392) o_374 2 (fun n_394 => zc1 (F_J2_add o_374 o_379 h_392) (fun c_399 => zn2 (fun x_397 h_398 => zpay c_399 (k_22 h_398))))))) (fun w_390 => some ((0, 0), .inr (.inr (.inr w_390, h_385))))))))))))))) (fun w_371 => some ((0, 0), .inr (.inr (.inr w_371, h_366))))))))) (fun w_361 => some ((0, 0), .inr (.inr (.inr w_361, h_356))))))))) (fun w_351 => some ((0, 0), .inr (.inr (.inr w_351, h_346)))))))))))) (fun w_336 => some ((0, 0), .inr (.inr (.inr w_336, h_331)))))))) (fun k_326 => if 8 ≤ x_324 then k_326 0 else k_326 1))))))))))))))
noncomputable def F_X8_land (o0 : Nat) (h : zSt) : Option ((Nat × Nat) × ((Option Nat ⊕ (String × Nat)) × zSt)) := zpay (1, 11) (zg (zfree h) (zlet (hN h) (fun o_4 => zlet (znA h 1 0) (fun h_2 => zc1 (F_X2_init o_4 h_2) (fun c_8 h_7 => zpay c_8 (zcs (zloopC (fun s : zSt => F_X8_land_L8 o0 o_4 s) h_7) (fun c_409 t_410 => zpay c_409 ((fun h_401 => zka (hK h_401) o_4 1 (fun n_402 => zb1 (F_X2_measures (hK h_401) (jF h_401) o_4 (hI h_401)) (fun I_405 => zlet (zsFI h_401 (jF h_401) I_405) (fun h_406 => some ((0, 0), (.inl (some o_4), h_406)))))) t_410)) (fun c_409 z_412 => zpay c_409 (some ((0, 0), z_412)))))))))
set_option maxHeartbeats 1000000 in
theorem W_X8_land_L8 {l : Launch} {G : zGt} (htr : l.stackTraces = false) {Q : zQt} {mE wE : Nat} {cc : Nat × Nat} {o0 : Nat} {h : zSt} {o_4 : Nat} {h_9 : zSt} {r : (zSt) ⊕ ((zSt) ⊕ ((Option Nat ⊕ (String × Nat)) × zSt))} (hF : F_X8_land_L8 o0 o_4 h_9 = some (cc, r)) (kl : ∀ (z0 : zSt), r = .inl z0 → zW l G MX8_land 1025 21142 mE wE 8 [(0, .ref o0), (1, .ref o_4)] [] (hK z0) (jF z0) (hI z0) (hL z0) Q) (kx : ∀ (y0 : zSt), r = .inr (.inl y0) → zW l G MX8_land 1025 21142 mE wE 381 [(1, .ref o_4)] [] (hK y0) (jF y0) (hI y0) (hL y0) Q) (kq : ∀ z : (Option Nat ⊕ (String × Nat)) × zSt, r = .inr (.inr z) → Q (zor z.1) (hK z.2) (jF z.2) (hI z.2) (hL z.2)) : zW l G MX8_land 1025 21142 (cc.1 + mE) (cc.2 + wE) 8 [(0, .ref o0), (1, .ref o_4)] [] (hK h_9) (jF h_9) (hI h_9) (hL h_9) Q := by
  unfold F_X8_land_L8 at hF
  refine z_aload_n (n := 9) dX8_land_8 rfl 0 rfl rfl ?_
  obtain ⟨n_10, hk_11, hF⟩ := zka_some hF
  obtain ⟨hb_12, hF⟩ := zg_some hF
  obtain ⟨o_13, hr_14, hF⟩ := zb1_some hF
  refine z_getRS (n := 12) dX8_land_9 rfl zok7 fX8_52_7 rfl hk_11 (Or.inl (zbig hb_12)) hr_14 ?_
  obtain ⟨hk_15, hF⟩ := zg_some hF
  refine z_gets (n := 15) (v := .ref 4) dX8_land_12 rfl zst_Sort_END q983 (fun j h => by cases h; exact ⟨by decide, zsome hk_15⟩) ?_
  obtain ⟨hz_16, hF⟩ := zg_some hF
  refine z_acmp_eq (r1 := (some o_13)) (r2 := (some 4)) (n := 18) (t := 381) dX8_land_15 rfl (by decide) (zcmpok_ok hz_16) (fun hc => ?_) (fun hc => ?_)
  · replace hF := (if_pos hc).symm.trans hF
    refine z_sub [1] rfl ?_
    obtain ⟨rfl, rfl⟩ := zpair hF
    refine z_eq (Nat.zero_add _) (Nat.zero_add _) ?_
    exact kx h_9 rfl
  · replace hF := (if_neg hc).symm.trans hF
    refine z_aload_n (n := 19) dX8_land_18 rfl 0 rfl rfl ?_
    obtain ⟨n_18, hk_17, hF⟩ := zka_some hF
    refine z_ldcS (n := 21) (j := 32) dX8_land_19 rfl zlit_X8_126 (by decide) (znn hk_17) ?_
    obtain ⟨x_20, c_19, hF⟩ := zb1_some hF
    refine z_cV (n := 24) (mc2 := (cc.1 + mE)) (ms2 := (cc.2 + wE)) (st := []) (C_X8_is htr c_19) dX8_land_21 rfl (lw_V q1078 q1080 qs15 q132 q1081) hcee_X8_is rfl (by decide) hk_11 rfl rfl rfl (Nat.le_of_ble_eq_true rfl) (Nat.le_refl _) (Nat.le_refl _) ?_
    obtain ⟨k_22, e_23, hF⟩ := zlet_ob hF
    have H_24 : ∀ (h_21 : zSt) (cc : Nat × Nat), k_22 h_21 = some (cc, r) → zW l G MX8_land 1025 21142 (cc.1 + mE) (cc.2 + wE) 372 [(0, .ref o0), (1, .ref o_4)] [] (hK h_21) (jF h_21) (hI h_21) (hL h_21) Q := by
      intro h_21 cc hF
      subst e_23
      dsimp only at hF
      refine z_aload_n (n := 373) dX8_land_372 rfl 0 rfl rfl ?_
      obtain ⟨n_26, hk_25, hF⟩ := zka_some hF
      refine z_ldcS (n := 375) (j := 48) dX8_land_373 rfl zlit_X8_201 (by decide) (znn hk_25) ?_
      obtain ⟨n_27, hk_28, hF⟩ := zka_some hF
      obtain ⟨c_32, t_33, c_29, hF⟩ := zc1_some hF
      obtain ⟨s_30, h_31⟩ := t_33
      dsimp only [zn2] at hF
      obtain ⟨cc, hF, hcc⟩ := zpay_some hF
      refine z_payE hcc ?_
      rcases zsum_some hF with ⟨x_35, e_34, hF⟩ | ⟨w_36, e_34, hF⟩
      rotate_left
      · first | rw [e_34] at c_29 ⊢ | rw [e_34] at c_29
        obtain ⟨rfl, rfl⟩ := zpair hF
        refine z_cVx (n := 378) (mc2 := (((0, 0) : Nat × Nat).1 + mE)) (ms2 := (((0, 0) : Nat × Nat).2 + wE)) (st := []) (C_X8_need htr c_29) dX8_land_375 rfl (lw_V q1261 q1263 qs29 q132 q1264) hcee_X8_need rfl (by decide) hk_28 rfl rfl rfl (Nat.le_of_ble_eq_true rfl) (Nat.le_of_eq (Nat.add_comm _ _)) (Nat.le_of_eq (Nat.add_comm _ _)) ?_
        exact z_out rfl (kq _ rfl)
      first | rw [e_34] at c_29 ⊢ | rw [e_34] at c_29
      refine z_cV (n := 378) (mc2 := (cc.1 + mE)) (ms2 := (cc.2 + wE)) (st := []) (C_X8_need htr c_29) dX8_land_375 rfl (lw_V q1261 q1263 qs29 q132 q1264) hcee_X8_need rfl (by decide) hk_28 rfl rfl rfl (Nat.le_of_ble_eq_true rfl) (Nat.le_of_eq (Nat.add_comm _ _)) (Nat.le_of_eq (Nat.add_comm _ _)) ?_
      refine z_goto (t := 8) dX8_land_378 (by decide) ?_
      obtain ⟨rfl, rfl⟩ := zpair hF
      refine z_eq (Nat.zero_add _) (Nat.zero_add _) ?_
      exact kl h_31 rfl
    clear e_23
    refine z_if_eq (n := 27) (t := 108) dX8_land_24 rfl (by decide) (fun hc => ?_) (fun hc => ?_)
    · replace hF := (if_pos hc).symm.trans hF
      refine z_aload_n (n := 109) dX8_land_108 rfl 0 rfl rfl ?_
      obtain ⟨n_38, hk_37, hF⟩ := zka_some hF
      refine z_ldcS (n := 111) (j := 34) dX8_land_109 rfl zlit_X8_148 (by decide) (znn hk_37) ?_
      obtain ⟨x_40, c_39, hF⟩ := zb1_some hF
      refine z_cV (n := 114) (mc2 := (cc.1 + mE)) (ms2 := (cc.2 + wE)) (st := []) (C_X8_is htr c_39) dX8_land_111 rfl (lw_V q1078 q1080 qs15 q132 q1081) hcee_X8_is rfl (by decide) hk_11 rfl rfl rfl (Nat.le_of_ble_eq_true rfl) (Nat.le_refl _) (Nat.le_refl _) ?_
      refine z_if_eq (n := 117) (t := 148) dX8_land_114 rfl (by decide) (fun hc => ?_) (fun hc => ?_)
      · replace hF := (if_pos hc).symm.trans hF
        refine z_aload_n (n := 149) dX8_land_148 rfl 0 rfl rfl ?_
        obtain ⟨n_42, hk_41, hF⟩ := zka_some hF
        refine z_ldcS (n := 151) (j := 36) dX8_land_149 rfl zlit_X8_156 (by decide) (znn hk_41) ?_
        obtain ⟨x_44, c_43, hF⟩ := zb1_some hF
        refine z_cV (n := 154) (mc2 := (cc.1 + mE)) (ms2 := (cc.2 + wE)) (st := []) (C_X8_is htr c_43) dX8_land_151 rfl (lw_V q1078 q1080 qs15 q132 q1081) hcee_X8_is rfl (by decide) hk_11 rfl rfl rfl (Nat.le_of_ble_eq_true rfl) (Nat.le_refl _) (Nat.le_refl _) ?_
        refine z_if_eq (n := 157) (t := 230) dX8_land_154 rfl (by decide) (fun hc => ?_) (fun hc => ?_)
        · replace hF := (if_pos hc).symm.trans hF
          refine z_aload_n (n := 231) dX8_land_230 rfl 0 rfl rfl ?_
          obtain ⟨n_46, hk_45, hF⟩ := zka_some hF
          refine z_ldcS (n := 233) (j := 38) dX8_land_231 rfl zlit_X8_169 (by decide) (znn hk_45) ?_
          obtain ⟨x_48, c_47, hF⟩ := zb1_some hF
          refine z_cV (n := 236) (mc2 := (cc.1 + mE)) (ms2 := (cc.2 + wE)) (st := []) (C_X8_is htr c_47) dX8_land_233 rfl (lw_V q1078 q1080 qs15 q132 q1081) hcee_X8_is rfl (by decide) hk_11 rfl rfl rfl (Nat.le_of_ble_eq_true rfl) (Nat.le_refl _) (Nat.le_refl _) ?_
          refine z_if_eq (n := 239) (t := 272) dX8_land_236 rfl (by decide) (fun hc => ?_) (fun hc => ?_)
          · replace hF := (if_pos hc).symm.trans hF
            refine z_aload_n (n := 273) dX8_land_272 rfl 0 rfl rfl ?_
            obtain ⟨n_50, hk_49, hF⟩ := zka_some hF
            refine z_ldcS (n := 275) (j := 40) dX8_land_273 rfl zlit_X8_176 (by decide) (znn hk_49) ?_
            refine z_iconst (n := 276) (v := 0) dX8_land_275 rfl (by decide) ?_
            obtain ⟨c_54, t_55, c_51, hF⟩ := zc1_some hF
            obtain ⟨s_52, h_53⟩ := t_55
            dsimp only [zn2] at hF
            obtain ⟨cc, hF, hcc⟩ := zpay_some hF
            refine z_payE hcc ?_
            rcases zsum_some hF with ⟨x_57, e_56, hF⟩ | ⟨w_58, e_56, hF⟩
            rotate_left
            · first | rw [e_56] at c_51 ⊢ | rw [e_56] at c_51
              obtain ⟨rfl, rfl⟩ := zpair hF
              refine z_cVx (n := 279) (mc2 := (((0, 0) : Nat × Nat).1 + mE)) (ms2 := (((0, 0) : Nat × Nat).2 + wE)) (st := []) (C_X8_begins htr c_51) dX8_land_276 rfl (lw_V q1214 q1216 qs22 q132 q1217) hcee_X8_begins rfl (by decide) hk_11 rfl rfl rfl (Nat.le_of_ble_eq_true rfl) (Nat.le_of_eq (Nat.add_comm _ _)) (Nat.le_of_eq (Nat.add_comm _ _)) ?_
              exact z_out rfl (kq _ rfl)
            first | rw [e_56] at c_51 ⊢ | rw [e_56] at c_51
            refine z_cV (n := 279) (mc2 := (cc.1 + mE)) (ms2 := (cc.2 + wE)) (st := []) (C_X8_begins htr c_51) dX8_land_276 rfl (lw_V q1214 q1216 qs22 q132 q1217) hcee_X8_begins rfl (by decide) hk_11 rfl rfl rfl (Nat.le_of_ble_eq_true rfl) (Nat.le_of_eq (Nat.add_comm _ _)) (Nat.le_of_eq (Nat.add_comm _ _)) ?_
            refine z_if_eq (n := 282) (t := 296) dX8_land_279 rfl (by decide) (fun hc => ?_) (fun hc => ?_)
            · replace hF := (if_pos hc).symm.trans hF
              refine z_aload_n (n := 297) dX8_land_296 rfl 0 rfl rfl ?_
              obtain ⟨n_60, hk_59, hF⟩ := zka_some hF
              refine z_ldcS (n := 299) (j := 42) dX8_land_297 rfl zlit_X8_184 (by decide) (znn hk_59) ?_
              refine z_iconst (n := 300) (v := 1) dX8_land_299 rfl (by decide) ?_
              obtain ⟨n_61, hk_62, hF⟩ := zka_some hF
              obtain ⟨c_66, t_67, c_63, hF⟩ := zc1_some hF
              obtain ⟨s_64, h_65⟩ := t_67
              dsimp only [zn2] at hF
              obtain ⟨cc, hF, hcc⟩ := zpay_some hF
              refine z_payE hcc ?_
              rcases zsum_some hF with ⟨x_69, e_68, hF⟩ | ⟨w_70, e_68, hF⟩
              rotate_left
              · first | rw [e_68] at c_63 ⊢ | rw [e_68] at c_63
                obtain ⟨rfl, rfl⟩ := zpair hF
                refine z_cVx (n := 303) (mc2 := (((0, 0) : Nat × Nat).1 + mE)) (ms2 := (((0, 0) : Nat × Nat).2 + wE)) (st := []) (C_X8_begins htr c_63) dX8_land_300 rfl (lw_V q1214 q1216 qs22 q132 q1217) hcee_X8_begins rfl (by decide) hk_62 rfl rfl rfl (Nat.le_of_ble_eq_true rfl) (Nat.le_of_eq (Nat.add_comm _ _)) (Nat.le_of_eq (Nat.add_comm _ _)) ?_
                exact z_out rfl (kq _ rfl)
              first | rw [e_68] at c_63 ⊢ | rw [e_68] at c_63
              refine z_cV (n := 303) (mc2 := (cc.1 + mE)) (ms2 := (cc.2 + wE)) (st := []) (C_X8_begins htr c_63) dX8_land_300 rfl (lw_V q1214 q1216 qs22 q132 q1217) hcee_X8_begins rfl (by decide) hk_62 rfl rfl rfl (Nat.le_of_ble_eq_true rfl) (Nat.le_of_eq (Nat.add_comm _ _)) (Nat.le_of_eq (Nat.add_comm _ _)) ?_
              refine z_if_eq (n := 306) (t := 320) dX8_land_303 rfl (by decide) (fun hc => ?_) (fun hc => ?_)
              · replace hF := (if_pos hc).symm.trans hF
                refine z_aload_n (n := 321) dX8_land_320 rfl 0 rfl rfl ?_
                obtain ⟨n_72, hk_71, hF⟩ := zka_some hF
                refine z_ldcS (n := 323) (j := 44) dX8_land_321 rfl zlit_X8_188 (by decide) (znn hk_71) ?_
                refine z_iconst (n := 324) (v := 2) dX8_land_323 rfl (by decide) ?_
                obtain ⟨n_73, hk_74, hF⟩ := zka_some hF
                obtain ⟨c_78, t_79, c_75, hF⟩ := zc1_some hF
                obtain ⟨s_76, h_77⟩ := t_79
                dsimp only [zn2] at hF
                obtain ⟨cc, hF, hcc⟩ := zpay_some hF
                refine z_payE hcc ?_
                rcases zsum_some hF with ⟨x_81, e_80, hF⟩ | ⟨w_82, e_80, hF⟩
                rotate_left
                · first | rw [e_80] at c_75 ⊢ | rw [e_80] at c_75
                  obtain ⟨rfl, rfl⟩ := zpair hF
                  refine z_cVx (n := 327) (mc2 := (((0, 0) : Nat × Nat).1 + mE)) (ms2 := (((0, 0) : Nat × Nat).2 + wE)) (st := []) (C_X8_begins htr c_75) dX8_land_324 rfl (lw_V q1214 q1216 qs22 q132 q1217) hcee_X8_begins rfl (by decide) hk_74 rfl rfl rfl (Nat.le_of_ble_eq_true rfl) (Nat.le_of_eq (Nat.add_comm _ _)) (Nat.le_of_eq (Nat.add_comm _ _)) ?_
                  exact z_out rfl (kq _ rfl)
                first | rw [e_80] at c_75 ⊢ | rw [e_80] at c_75
                refine z_cV (n := 327) (mc2 := (cc.1 + mE)) (ms2 := (cc.2 + wE)) (st := []) (C_X8_begins htr c_75) dX8_land_324 rfl (lw_V q1214 q1216 qs22 q132 q1217) hcee_X8_begins rfl (by decide) hk_74 rfl rfl rfl (Nat.le_of_ble_eq_true rfl) (Nat.le_of_eq (Nat.add_comm _ _)) (Nat.le_of_eq (Nat.add_comm _ _)) ?_
                refine z_if_eq (n := 330) (t := 344) dX8_land_327 rfl (by decide) (fun hc => ?_) (fun hc => ?_)
                · replace hF := (if_pos hc).symm.trans hF
                  refine z_aload_n (n := 345) dX8_land_344 rfl 0 rfl rfl ?_
                  obtain ⟨n_84, hk_83, hF⟩ := zka_some hF
                  refine z_ldcS (n := 347) (j := 46) dX8_land_345 rfl zlit_X8_192 (by decide) (znn hk_83) ?_
                  refine z_iconst (n := 348) (v := 3) dX8_land_347 rfl (by decide) ?_
                  obtain ⟨n_85, hk_86, hF⟩ := zka_some hF
                  obtain ⟨c_90, t_91, c_87, hF⟩ := zc1_some hF
                  obtain ⟨s_88, h_89⟩ := t_91
                  dsimp only [zn2] at hF
                  obtain ⟨cc, hF, hcc⟩ := zpay_some hF
                  refine z_payE hcc ?_
                  rcases zsum_some hF with ⟨x_93, e_92, hF⟩ | ⟨w_94, e_92, hF⟩
                  rotate_left
                  · first | rw [e_92] at c_87 ⊢ | rw [e_92] at c_87
                    obtain ⟨rfl, rfl⟩ := zpair hF
                    refine z_cVx (n := 351) (mc2 := (((0, 0) : Nat × Nat).1 + mE)) (ms2 := (((0, 0) : Nat × Nat).2 + wE)) (st := []) (C_X8_begins htr c_87) dX8_land_348 rfl (lw_V q1214 q1216 qs22 q132 q1217) hcee_X8_begins rfl (by decide) hk_86 rfl rfl rfl (Nat.le_of_ble_eq_true rfl) (Nat.le_of_eq (Nat.add_comm _ _)) (Nat.le_of_eq (Nat.add_comm _ _)) ?_
                    exact z_out rfl (kq _ rfl)
                  first | rw [e_92] at c_87 ⊢ | rw [e_92] at c_87
                  refine z_cV (n := 351) (mc2 := (cc.1 + mE)) (ms2 := (cc.2 + wE)) (st := []) (C_X8_begins htr c_87) dX8_land_348 rfl (lw_V q1214 q1216 qs22 q132 q1217) hcee_X8_begins rfl (by decide) hk_86 rfl rfl rfl (Nat.le_of_ble_eq_true rfl) (Nat.le_of_eq (Nat.add_comm _ _)) (Nat.le_of_eq (Nat.add_comm _ _)) ?_
                  refine z_if_eq (n := 354) (t := 366) dX8_land_351 rfl (by decide) (fun hc => ?_) (fun hc => ?_)
                  · replace hF := (if_pos hc).symm.trans hF
                    refine z_aload_n (n := 367) dX8_land_366 rfl 0 rfl rfl ?_
                    refine z_iconst (n := 368) (v := 0) dX8_land_367 rfl (by decide) ?_
                    refine z_iconst (n := 369) (v := 1) dX8_land_368 rfl (by decide) ?_
                    obtain ⟨n_95, hk_96, hF⟩ := zka_some hF
                    obtain ⟨c_100, t_101, c_97, hF⟩ := zc1_some hF
                    obtain ⟨s_98, h_99⟩ := t_101
                    dsimp only [zn2] at hF
                    obtain ⟨cc, hF, hcc⟩ := zpay_some hF
                    refine z_payE hcc ?_
                    rcases zsum_some hF with ⟨x_103, e_102, hF⟩ | ⟨w_104, e_102, hF⟩
                    rotate_left
                    · first | rw [e_102] at c_97 ⊢ | rw [e_102] at c_97
                      obtain ⟨rfl, rfl⟩ := zpair hF
                      refine z_cVx (n := 372) (mc2 := (((0, 0) : Nat × Nat).1 + mE)) (ms2 := (((0, 0) : Nat × Nat).2 + wE)) (st := []) (C_X8_check htr c_97) dX8_land_369 rfl (lw_V q1090 q1092 qs16 q132 q1093) hcee_X8_check rfl (by decide) hk_96 rfl rfl rfl (Nat.le_of_ble_eq_true rfl) (Nat.le_of_eq (Nat.add_comm _ _)) (Nat.le_of_eq (Nat.add_comm _ _)) ?_
                      exact z_out rfl (kq _ rfl)
                    first | rw [e_102] at c_97 ⊢ | rw [e_102] at c_97
                    refine z_cV (n := 372) (mc2 := (cc.1 + mE)) (ms2 := (cc.2 + wE)) (st := []) (C_X8_check htr c_97) dX8_land_369 rfl (lw_V q1090 q1092 qs16 q132 q1093) hcee_X8_check rfl (by decide) hk_96 rfl rfl rfl (Nat.le_of_ble_eq_true rfl) (Nat.le_of_eq (Nat.add_comm _ _)) (Nat.le_of_eq (Nat.add_comm _ _)) ?_
                    exact H_24 h_99 _ hF
                  · replace hF := (if_neg hc).symm.trans hF
                    refine z_aload_n (n := 355) dX8_land_354 rfl 1 rfl rfl ?_
                    refine z_aload_n (n := 356) dX8_land_355 rfl 0 rfl rfl ?_
                    refine z_iconst (n := 357) (v := 0) dX8_land_356 rfl (by decide) ?_
                    obtain ⟨n_105, hk_106, hF⟩ := zka_some hF
                    obtain ⟨c_110, t_111, c_107, hF⟩ := zc1_some hF
                    obtain ⟨s_108, h_109⟩ := t_111
                    dsimp only [zn2] at hF
                    obtain ⟨cc, hF, hcc⟩ := zpay_some hF
                    refine z_payE hcc ?_
                    rcases zsum_some hF with ⟨q_113, e_112, hF⟩ | ⟨w_114, e_112, hF⟩
                    rotate_left
                    · first | rw [e_112] at c_107 ⊢ | rw [e_112] at c_107
                      obtain ⟨rfl, rfl⟩ := zpair hF
                      refine z_cVx (n := 360) (mc2 := (((0, 0) : Nat × Nat).1 + mE)) (ms2 := (((0, 0) : Nat × Nat).2 + wE)) (st := [.ref o_4]) (C_expr htr 64 _ _ _ _ _ c_107) dX8_land_357 rfl (lw_V q1221 q1223 qs23 q132 q1224) hcee_X8_expr rfl (by decide) hk_106 rfl rfl rfl (Nat.le_of_ble_eq_true rfl) (Nat.le_of_eq (Nat.add_comm _ _)) (Nat.le_of_eq (Nat.add_comm _ _)) ?_
                      exact z_out rfl (kq _ rfl)
                    first | rw [e_112] at c_107 ⊢ | rw [e_112] at c_107
                    refine z_cV (n := 360) (mc2 := (cc.1 + mE)) (ms2 := (cc.2 + wE)) (st := [.ref o_4]) (C_expr htr 64 _ _ _ _ _ c_107) dX8_land_357 rfl (lw_V q1221 q1223 qs23 q132 q1224) hcee_X8_expr rfl (by decide) hk_106 rfl rfl rfl (Nat.le_of_ble_eq_true rfl) (Nat.le_of_eq (Nat.add_comm _ _)) (Nat.le_of_eq (Nat.add_comm _ _)) ?_
                    obtain ⟨o_115, hr_116, hF⟩ := zb1_some hF
                    rw [hr_116]
                    obtain ⟨n_117, hk_118, hF⟩ := zka_some hF
                    obtain ⟨hb_119, hF⟩ := zg_some hF
                    obtain ⟨h_120, e_121, hF⟩ := zlet_ob hF
                    refine z_putR (r := (some o_115)) (n := 363) dX8_land_360 rfl zok1 fX8_198_1 (Or.inl ⟨_, rfl, rfl⟩) rfl hk_118 (zbig hb_119) ?_
                    refine z_toF e_121 ?_
                    refine z_goto (t := 372) dX8_land_363 (by decide) ?_
                    exact H_24 h_120 _ hF
                · replace hF := (if_neg hc).symm.trans hF
                  refine z_aload_n (n := 331) dX8_land_330 rfl 1 rfl rfl ?_
                  refine z_aload_n (n := 332) dX8_land_331 rfl 0 rfl rfl ?_
                  refine z_iconst (n := 333) (v := 0) dX8_land_332 rfl (by decide) ?_
                  refine z_bipush (n := 335) (v := 99) dX8_land_333 rfl (by decide) ?_
                  obtain ⟨n_122, hk_123, hF⟩ := zka_some hF
                  obtain ⟨c_127, t_128, c_124, hF⟩ := zc1_some hF
                  obtain ⟨s_125, h_126⟩ := t_128
                  dsimp only [zn2] at hF
                  obtain ⟨cc, hF, hcc⟩ := zpay_some hF
                  refine z_payE hcc ?_
                  rcases zsum_some hF with ⟨x_130, e_129, hF⟩ | ⟨w_131, e_129, hF⟩
                  rotate_left
                  · first | rw [e_129] at c_124 ⊢ | rw [e_129] at c_124
                    obtain ⟨rfl, rfl⟩ := zpair hF
                    refine z_cVx (n := 338) (mc2 := (((0, 0) : Nat × Nat).1 + mE)) (ms2 := (((0, 0) : Nat × Nat).2 + wE)) (st := [.ref o_4]) (C_X8_number htr c_124) dX8_land_335 rfl (lw_V q1117 q1119 qs17 q132 q1120) hcee_X8_number rfl (by decide) hk_123 rfl rfl rfl (Nat.le_of_ble_eq_true rfl) (Nat.le_of_eq (Nat.add_comm _ _)) (Nat.le_of_eq (Nat.add_comm _ _)) ?_
                    exact z_out rfl (kq _ rfl)
                  first | rw [e_129] at c_124 ⊢ | rw [e_129] at c_124
                  refine z_cV (n := 338) (mc2 := (cc.1 + mE)) (ms2 := (cc.2 + wE)) (st := [.ref o_4]) (C_X8_number htr c_124) dX8_land_335 rfl (lw_V q1117 q1119 qs17 q132 q1120) hcee_X8_number rfl (by decide) hk_123 rfl rfl rfl (Nat.le_of_ble_eq_true rfl) (Nat.le_of_eq (Nat.add_comm _ _)) (Nat.le_of_eq (Nat.add_comm _ _)) ?_
                  obtain ⟨n_132, hk_133, hF⟩ := zka_some hF
                  obtain ⟨hb_134, hF⟩ := zg_some hF
                  obtain ⟨h_135, e_136, hF⟩ := zlet_ob hF
                  refine z_putIE (n := 341) dX8_land_338 rfl zok1 fX8_190_1 (Or.inl ⟨_, rfl, rfl⟩) rfl ⟨rfl, rfl⟩ hk_133 (zbig hb_134) rfl ?_
                  refine z_toI e_136 ?_
                  refine z_goto (t := 372) dX8_land_341 (by decide) ?_
                  exact H_24 h_135 _ hF
              · replace hF := (if_neg hc).symm.trans hF
                refine z_aload_n (n := 307) dX8_land_306 rfl 1 rfl rfl ?_
                refine z_aload_n (n := 308) dX8_land_307 rfl 0 rfl rfl ?_
                refine z_iconst (n := 309) (v := 1) dX8_land_308 rfl (by decide) ?_
                refine z_bipush (n := 311) (v := 9) dX8_land_309 rfl (by decide) ?_
                obtain ⟨n_137, hk_138, hF⟩ := zka_some hF
                obtain ⟨c_142, t_143, c_139, hF⟩ := zc1_some hF
                obtain ⟨s_140, h_141⟩ := t_143
                dsimp only [zn2] at hF
                obtain ⟨cc, hF, hcc⟩ := zpay_some hF
                refine z_payE hcc ?_
                rcases zsum_some hF with ⟨x_145, e_144, hF⟩ | ⟨w_146, e_144, hF⟩
                rotate_left
                · first | rw [e_144] at c_139 ⊢ | rw [e_144] at c_139
                  obtain ⟨rfl, rfl⟩ := zpair hF
                  refine z_cVx (n := 314) (mc2 := (((0, 0) : Nat × Nat).1 + mE)) (ms2 := (((0, 0) : Nat × Nat).2 + wE)) (st := [.ref o_4]) (C_X8_number htr c_139) dX8_land_311 rfl (lw_V q1117 q1119 qs17 q132 q1120) hcee_X8_number rfl (by decide) hk_138 rfl rfl rfl (Nat.le_of_ble_eq_true rfl) (Nat.le_of_eq (Nat.add_comm _ _)) (Nat.le_of_eq (Nat.add_comm _ _)) ?_
                  exact z_out rfl (kq _ rfl)
                first | rw [e_144] at c_139 ⊢ | rw [e_144] at c_139
                refine z_cV (n := 314) (mc2 := (cc.1 + mE)) (ms2 := (cc.2 + wE)) (st := [.ref o_4]) (C_X8_number htr c_139) dX8_land_311 rfl (lw_V q1117 q1119 qs17 q132 q1120) hcee_X8_number rfl (by decide) hk_138 rfl rfl rfl (Nat.le_of_ble_eq_true rfl) (Nat.le_of_eq (Nat.add_comm _ _)) (Nat.le_of_eq (Nat.add_comm _ _)) ?_
                obtain ⟨n_147, hk_148, hF⟩ := zka_some hF
                obtain ⟨hb_149, hF⟩ := zg_some hF
                obtain ⟨h_150, e_151, hF⟩ := zlet_ob hF
                refine z_putIE (n := 317) dX8_land_314 rfl zok1 fX8_186_1 (Or.inl ⟨_, rfl, rfl⟩) rfl ⟨rfl, rfl⟩ hk_148 (zbig hb_149) rfl ?_
                refine z_toI e_151 ?_
                refine z_goto (t := 372) dX8_land_317 (by decide) ?_
                exact H_24 h_150 _ hF
            · replace hF := (if_neg hc).symm.trans hF
              refine z_aload_n (n := 283) dX8_land_282 rfl 1 rfl rfl ?_
              refine z_aload_n (n := 284) dX8_land_283 rfl 0 rfl rfl ?_
              refine z_iconst (n := 285) (v := 0) dX8_land_284 rfl (by decide) ?_
              refine z_bipush (n := 287) (v := 9) dX8_land_285 rfl (by decide) ?_
              obtain ⟨n_152, hk_153, hF⟩ := zka_some hF
              obtain ⟨c_157, t_158, c_154, hF⟩ := zc1_some hF
              obtain ⟨s_155, h_156⟩ := t_158
              dsimp only [zn2] at hF
              obtain ⟨cc, hF, hcc⟩ := zpay_some hF
              refine z_payE hcc ?_
              rcases zsum_some hF with ⟨x_160, e_159, hF⟩ | ⟨w_161, e_159, hF⟩
              rotate_left
              · first | rw [e_159] at c_154 ⊢ | rw [e_159] at c_154
                obtain ⟨rfl, rfl⟩ := zpair hF
                refine z_cVx (n := 290) (mc2 := (((0, 0) : Nat × Nat).1 + mE)) (ms2 := (((0, 0) : Nat × Nat).2 + wE)) (st := [.ref o_4]) (C_X8_number htr c_154) dX8_land_287 rfl (lw_V q1117 q1119 qs17 q132 q1120) hcee_X8_number rfl (by decide) hk_153 rfl rfl rfl (Nat.le_of_ble_eq_true rfl) (Nat.le_of_eq (Nat.add_comm _ _)) (Nat.le_of_eq (Nat.add_comm _ _)) ?_
                exact z_out rfl (kq _ rfl)
              first | rw [e_159] at c_154 ⊢ | rw [e_159] at c_154
              refine z_cV (n := 290) (mc2 := (cc.1 + mE)) (ms2 := (cc.2 + wE)) (st := [.ref o_4]) (C_X8_number htr c_154) dX8_land_287 rfl (lw_V q1117 q1119 qs17 q132 q1120) hcee_X8_number rfl (by decide) hk_153 rfl rfl rfl (Nat.le_of_ble_eq_true rfl) (Nat.le_of_eq (Nat.add_comm _ _)) (Nat.le_of_eq (Nat.add_comm _ _)) ?_
              obtain ⟨n_162, hk_163, hF⟩ := zka_some hF
              obtain ⟨hb_164, hF⟩ := zg_some hF
              obtain ⟨h_165, e_166, hF⟩ := zlet_ob hF
              refine z_putIE (n := 293) dX8_land_290 rfl zok1 fX8_182_1 (Or.inl ⟨_, rfl, rfl⟩) rfl ⟨rfl, rfl⟩ hk_163 (zbig hb_164) rfl ?_
              refine z_toI e_166 ?_
              refine z_goto (t := 372) dX8_land_293 (by decide) ?_
              exact H_24 h_165 _ hF
          · replace hF := (if_neg hc).symm.trans hF
            refine z_aload_n (n := 240) dX8_land_239 rfl 0 rfl rfl ?_
            refine z_aload_n (n := 241) dX8_land_240 rfl 1 rfl rfl ?_
            obtain ⟨n_167, hk_168, hF⟩ := zka_some hF
            obtain ⟨hb_169, hF⟩ := zg_some hF
            obtain ⟨o_170, hr_171, hF⟩ := zb1_some hF
            refine z_getRS (n := 244) dX8_land_241 rfl zok1 fX8_171_1 rfl hk_168 (Or.inl (zbig hb_169)) hr_171 ?_
            obtain ⟨n_172, hk_173, hF⟩ := zka_some hF
            obtain ⟨x_175, c_174, hF⟩ := zb1_some hF
            refine z_cV (n := 247) (mc2 := (cc.1 + mE)) (ms2 := (cc.2 + wE)) (st := [.ref o0]) (C_J2_size htr c_174) dX8_land_244 rfl (lw_V q1089 q834 q835 q109 q836) hcee_J2_size rfl (by decide) hk_173 rfl rfl rfl (Nat.le_of_ble_eq_true rfl) (Nat.le_refl _) (Nat.le_refl _) ?_
            refine z_iconst (n := 248) (v := 3) dX8_land_247 rfl (by decide) ?_
            obtain ⟨k_177, e_178, hF⟩ := zlet_ob hF
            have H_179 : ∀ (w_176 : Int32) (cc : Nat × Nat), k_177 w_176 = some (cc, r) → zW l G MX8_land 1025 21142 (cc.1 + mE) (cc.2 + wE) 256 [(0, .ref o0), (1, .ref o_4)] [.int w_176, .ref o0] (hK h_9) (jF h_9) (hI h_9) (hL h_9) Q := by
              intro w_176 cc hF
              subst e_178
              dsimp only at hF
              refine z_iconst (n := 257) (v := 2) dX8_land_256 rfl (by decide) ?_
              obtain ⟨c_183, t_184, c_180, hF⟩ := zc1_some hF
              obtain ⟨s_181, h_182⟩ := t_184
              dsimp only [zn2] at hF
              obtain ⟨cc, hF, hcc⟩ := zpay_some hF
              refine z_payE hcc ?_
              rcases zsum_some hF with ⟨x_186, e_185, hF⟩ | ⟨w_187, e_185, hF⟩
              rotate_left
              · first | rw [e_185] at c_180 ⊢ | rw [e_185] at c_180
                obtain ⟨rfl, rfl⟩ := zpair hF
                refine z_cVx (n := 260) (mc2 := (((0, 0) : Nat × Nat).1 + mE)) (ms2 := (((0, 0) : Nat × Nat).2 + wE)) (st := []) (C_X8_check htr c_180) dX8_land_257 rfl (lw_V q1090 q1092 qs16 q132 q1093) hcee_X8_check rfl (by decide) hk_11 rfl rfl rfl (Nat.le_of_ble_eq_true rfl) (Nat.le_of_eq (Nat.add_comm _ _)) (Nat.le_of_eq (Nat.add_comm _ _)) ?_
                exact z_out rfl (kq _ rfl)
              first | rw [e_185] at c_180 ⊢ | rw [e_185] at c_180
              refine z_cV (n := 260) (mc2 := (cc.1 + mE)) (ms2 := (cc.2 + wE)) (st := []) (C_X8_check htr c_180) dX8_land_257 rfl (lw_V q1090 q1092 qs16 q132 q1093) hcee_X8_check rfl (by decide) hk_11 rfl rfl rfl (Nat.le_of_ble_eq_true rfl) (Nat.le_of_eq (Nat.add_comm _ _)) (Nat.le_of_eq (Nat.add_comm _ _)) ?_
              refine z_aload_n (n := 261) dX8_land_260 rfl 0 rfl rfl ?_
              obtain ⟨n_188, hk_189, hF⟩ := zka_some hF
              obtain ⟨c_192, h_191, c_190, hF⟩ := zc1_some hF
              obtain ⟨cc, hF, hcc⟩ := zpay_some hF
              refine z_payE hcc ?_
              refine z_cV (n := 264) (mc2 := (cc.1 + mE)) (ms2 := (cc.2 + wE)) (st := []) (C_X8_go htr c_190) dX8_land_261 rfl (lw_V q975 q977 qs13 q132 q978) hcee_X8_go rfl (by decide) hk_189 rfl rfl rfl (Nat.le_of_ble_eq_true rfl) (Nat.le_of_eq (Nat.add_comm _ _)) (Nat.le_of_eq (Nat.add_comm _ _)) ?_
              refine z_aload_n (n := 265) dX8_land_264 rfl 0 rfl rfl ?_
              refine z_aload_n (n := 266) dX8_land_265 rfl 1 rfl rfl ?_
              obtain ⟨n_193, hk_194, hF⟩ := zka_some hF
              obtain ⟨c_198, t_199, c_195, hF⟩ := zc1_some hF
              obtain ⟨s_196, h_197⟩ := t_199
              dsimp only [zn2] at hF
              obtain ⟨cc, hF, hcc⟩ := zpay_some hF
              refine z_payE hcc ?_
              rcases zsum_some hF with ⟨x_201, e_200, hF⟩ | ⟨w_202, e_200, hF⟩
              rotate_left
              · first | rw [e_200] at c_195 ⊢ | rw [e_200] at c_195
                obtain ⟨rfl, rfl⟩ := zpair hF
                refine z_cVx (n := 269) (mc2 := (((0, 0) : Nat × Nat).1 + mE)) (ms2 := (((0, 0) : Nat × Nat).2 + wE)) (st := []) (C_X8_fort htr c_195) dX8_land_266 rfl (lw_V q1183 q1185 qs21 q132 q1186) hcee_X8_fort rfl (by decide) hk_194 rfl rfl rfl (Nat.le_of_ble_eq_true rfl) (Nat.le_of_eq (Nat.add_comm _ _)) (Nat.le_of_eq (Nat.add_comm _ _)) ?_
                exact z_out rfl (kq _ rfl)
              first | rw [e_200] at c_195 ⊢ | rw [e_200] at c_195
              refine z_cV (n := 269) (mc2 := (cc.1 + mE)) (ms2 := (cc.2 + wE)) (st := []) (C_X8_fort htr c_195) dX8_land_266 rfl (lw_V q1183 q1185 qs21 q132 q1186) hcee_X8_fort rfl (by decide) hk_194 rfl rfl rfl (Nat.le_of_ble_eq_true rfl) (Nat.le_of_eq (Nat.add_comm _ _)) (Nat.le_of_eq (Nat.add_comm _ _)) ?_
              refine z_goto (t := 372) dX8_land_269 (by decide) ?_
              exact H_24 h_197 _ hF
            clear e_178
            refine z_icmp_ge (n := 251) (t := 255) dX8_land_248 rfl (by decide) (fun hc => ?_) (fun hc => ?_)
            · replace hF := (if_pos hc).symm.trans hF
              refine z_iconst (n := 256) (v := 0) dX8_land_255 rfl (by decide) ?_
              exact H_179 0 _ hF
            · replace hF := (if_neg hc).symm.trans hF
              refine z_iconst (n := 252) (v := 1) dX8_land_251 rfl (by decide) ?_
              refine z_goto (t := 256) dX8_land_252 (by decide) ?_
              exact H_179 1 _ hF
        · replace hF := (if_neg hc).symm.trans hF
          refine z_aload_n (n := 158) dX8_land_157 rfl 0 rfl rfl ?_
          refine z_aload_n (n := 159) dX8_land_158 rfl 1 rfl rfl ?_
          obtain ⟨n_203, hk_204, hF⟩ := zka_some hF
          obtain ⟨hb_205, hF⟩ := zg_some hF
          obtain ⟨o_206, hr_207, hF⟩ := zb1_some hF
          refine z_getRS (n := 162) dX8_land_159 rfl zok1 fX8_158_1 rfl hk_204 (Or.inl (zbig hb_205)) hr_207 ?_
          obtain ⟨n_208, hk_209, hF⟩ := zka_some hF
          obtain ⟨x_211, c_210, hF⟩ := zb1_some hF
          refine z_cV (n := 165) (mc2 := (cc.1 + mE)) (ms2 := (cc.2 + wE)) (st := [.ref o0]) (C_J2_size htr c_210) dX8_land_162 rfl (lw_V q1089 q834 q835 q109 q836) hcee_J2_size rfl (by decide) hk_209 rfl rfl rfl (Nat.le_of_ble_eq_true rfl) (Nat.le_refl _) (Nat.le_refl _) ?_
          refine z_bipush (n := 167) (v := 6) dX8_land_165 rfl (by decide) ?_
          obtain ⟨k_213, e_214, hF⟩ := zlet_ob hF
          have H_215 : ∀ (w_212 : Int32) (cc : Nat × Nat), k_213 w_212 = some (cc, r) → zW l G MX8_land 1025 21142 (cc.1 + mE) (cc.2 + wE) 175 [(0, .ref o0), (1, .ref o_4)] [.int w_212, .ref o0] (hK h_9) (jF h_9) (hI h_9) (hL h_9) Q := by
            intro w_212 cc hF
            subst e_214
            dsimp only at hF
            refine z_iconst (n := 176) (v := 2) dX8_land_175 rfl (by decide) ?_
            obtain ⟨c_219, t_220, c_216, hF⟩ := zc1_some hF
            obtain ⟨s_217, h_218⟩ := t_220
            dsimp only [zn2] at hF
            obtain ⟨cc, hF, hcc⟩ := zpay_some hF
            refine z_payE hcc ?_
            rcases zsum_some hF with ⟨x_222, e_221, hF⟩ | ⟨w_223, e_221, hF⟩
            rotate_left
            · first | rw [e_221] at c_216 ⊢ | rw [e_221] at c_216
              obtain ⟨rfl, rfl⟩ := zpair hF
              refine z_cVx (n := 179) (mc2 := (((0, 0) : Nat × Nat).1 + mE)) (ms2 := (((0, 0) : Nat × Nat).2 + wE)) (st := []) (C_X8_check htr c_216) dX8_land_176 rfl (lw_V q1090 q1092 qs16 q132 q1093) hcee_X8_check rfl (by decide) hk_11 rfl rfl rfl (Nat.le_of_ble_eq_true rfl) (Nat.le_of_eq (Nat.add_comm _ _)) (Nat.le_of_eq (Nat.add_comm _ _)) ?_
              exact z_out rfl (kq _ rfl)
            first | rw [e_221] at c_216 ⊢ | rw [e_221] at c_216
            refine z_cV (n := 179) (mc2 := (cc.1 + mE)) (ms2 := (cc.2 + wE)) (st := []) (C_X8_check htr c_216) dX8_land_176 rfl (lw_V q1090 q1092 qs16 q132 q1093) hcee_X8_check rfl (by decide) hk_11 rfl rfl rfl (Nat.le_of_ble_eq_true rfl) (Nat.le_of_eq (Nat.add_comm _ _)) (Nat.le_of_eq (Nat.add_comm _ _)) ?_
            refine z_aload_n (n := 180) dX8_land_179 rfl 0 rfl rfl ?_
            obtain ⟨n_224, hk_225, hF⟩ := zka_some hF
            obtain ⟨c_228, h_227, c_226, hF⟩ := zc1_some hF
            obtain ⟨cc, hF, hcc⟩ := zpay_some hF
            refine z_payE hcc ?_
            refine z_cV (n := 183) (mc2 := (cc.1 + mE)) (ms2 := (cc.2 + wE)) (st := []) (C_X8_go htr c_226) dX8_land_180 rfl (lw_V q975 q977 qs13 q132 q978) hcee_X8_go rfl (by decide) hk_225 rfl rfl rfl (Nat.le_of_ble_eq_true rfl) (Nat.le_of_eq (Nat.add_comm _ _)) (Nat.le_of_eq (Nat.add_comm _ _)) ?_
            refine z_aload_n (n := 184) dX8_land_183 rfl 0 rfl rfl ?_
            refine z_iconst (n := 185) (v := 1) dX8_land_184 rfl (by decide) ?_
            refine z_bipush (n := 187) (v := 30) dX8_land_185 rfl (by decide) ?_
            obtain ⟨n_229, hk_230, hF⟩ := zka_some hF
            obtain ⟨c_234, t_235, c_231, hF⟩ := zc1_some hF
            obtain ⟨s_232, h_233⟩ := t_235
            dsimp only [zn2] at hF
            obtain ⟨cc, hF, hcc⟩ := zpay_some hF
            refine z_payE hcc ?_
            rcases zsum_some hF with ⟨x_237, e_236, hF⟩ | ⟨w_238, e_236, hF⟩
            rotate_left
            · first | rw [e_236] at c_231 ⊢ | rw [e_236] at c_231
              obtain ⟨rfl, rfl⟩ := zpair hF
              refine z_cVx (n := 190) (mc2 := (((0, 0) : Nat × Nat).1 + mE)) (ms2 := (((0, 0) : Nat × Nat).2 + wE)) (st := []) (C_X8_number htr c_231) dX8_land_187 rfl (lw_V q1117 q1119 qs17 q132 q1120) hcee_X8_number rfl (by decide) hk_230 rfl rfl rfl (Nat.le_of_ble_eq_true rfl) (Nat.le_of_eq (Nat.add_comm _ _)) (Nat.le_of_eq (Nat.add_comm _ _)) ?_
              exact z_out rfl (kq _ rfl)
            first | rw [e_236] at c_231 ⊢ | rw [e_236] at c_231
            refine z_cV (n := 190) (mc2 := (cc.1 + mE)) (ms2 := (cc.2 + wE)) (st := []) (C_X8_number htr c_231) dX8_land_187 rfl (lw_V q1117 q1119 qs17 q132 q1120) hcee_X8_number rfl (by decide) hk_230 rfl rfl rfl (Nat.le_of_ble_eq_true rfl) (Nat.le_of_eq (Nat.add_comm _ _)) (Nat.le_of_eq (Nat.add_comm _ _)) ?_
            refine z_istore_nE (n := 191) (lv' := [(2, .int x_237), (0, .ref o0), (1, .ref o_4)]) dX8_land_190 rfl rfl rfl (by decide) rfl ?_
            refine z_aload_n (n := 192) dX8_land_191 rfl 1 rfl rfl ?_
            refine z_aload_n (n := 193) dX8_land_192 rfl 2 rfl rfl ?_
            obtain ⟨n_239, hk_240, hF⟩ := zka_some hF
            obtain ⟨o_241, hr_242, hF⟩ := zb1_some hF
            refine z_getRS (n := 196) dX8_land_193 rfl zok1 fX8_128_1 rfl hk_240 (Or.inl (zbig hb_205)) hr_242 ?_
            obtain ⟨n_243, hk_244, hF⟩ := zka_some hF
            obtain ⟨x_246, c_245, hF⟩ := zb1_some hF
            refine z_cV (n := 199) (mc2 := (cc.1 + mE)) (ms2 := (cc.2 + wE)) (st := [.ref o0]) (C_J2_size htr c_245) dX8_land_196 rfl (lw_V q1089 q834 q835 q109 q836) hcee_J2_size rfl (by decide) hk_244 rfl rfl rfl (Nat.le_of_ble_eq_true rfl) (Nat.le_refl _) (Nat.le_refl _) ?_
            obtain ⟨n_247, hk_248, hF⟩ := zka_some hF
            obtain ⟨c_252, t_253, c_249, hF⟩ := zc1_some hF
            obtain ⟨s_250, h_251⟩ := t_253
            dsimp only [zn2] at hF
            obtain ⟨cc, hF, hcc⟩ := zpay_some hF
            refine z_payE hcc ?_
            rcases zsum_some hF with ⟨x_255, e_254, hF⟩ | ⟨w_256, e_254, hF⟩
            rotate_left
            · first | rw [e_254] at c_249 ⊢ | rw [e_254] at c_249
              obtain ⟨rfl, rfl⟩ := zpair hF
              refine z_cVx (n := 202) (mc2 := (((0, 0) : Nat × Nat).1 + mE)) (ms2 := (((0, 0) : Nat × Nat).2 + wE)) (st := []) (C_X8_among htr c_249) dX8_land_199 rfl (lw_V q1150 q1152 qs19 q132 q1153) hcee_X8_among rfl (by decide) hk_248 rfl rfl rfl (Nat.le_of_ble_eq_true rfl) (Nat.le_of_eq (Nat.add_comm _ _)) (Nat.le_of_eq (Nat.add_comm _ _)) ?_
              exact z_out rfl (kq _ rfl)
            first | rw [e_254] at c_249 ⊢ | rw [e_254] at c_249
            refine z_cV (n := 202) (mc2 := (cc.1 + mE)) (ms2 := (cc.2 + wE)) (st := []) (C_X8_among htr c_249) dX8_land_199 rfl (lw_V q1150 q1152 qs19 q132 q1153) hcee_X8_among rfl (by decide) hk_248 rfl rfl rfl (Nat.le_of_ble_eq_true rfl) (Nat.le_of_eq (Nat.add_comm _ _)) (Nat.le_of_eq (Nat.add_comm _ _)) ?_
            refine z_istore_nE (n := 203) (lv' := [(3, .int x_255), (2, .int x_237), (0, .ref o0), (1, .ref o_4)]) dX8_land_202 rfl rfl rfl (by decide) rfl ?_
            refine z_aload_n (n := 204) dX8_land_203 rfl 3 rfl rfl ?_
            obtain ⟨n_257, hk_258, hF⟩ := zka_some hF
            obtain ⟨o_259, hr_260, hF⟩ := zb1_some hF
            refine z_getRS (n := 207) dX8_land_204 rfl zok1 fX8_158_1 rfl hk_258 (Or.inl (zbig hb_205)) hr_260 ?_
            obtain ⟨cc, hF, hcc⟩ := zpay_some hF
            refine z_payE hcc ?_
            obtain ⟨hn_261, hF⟩ := zg_some hF
            obtain ⟨o_264, e_265, hF⟩ := zlet_ob hF
            obtain ⟨h_262, e_263, hF⟩ := zlet_ob hF
            refine z_newT (n := 210) dX8_land_207 rfl zok10 ⟨_, rfl, rfl, q1164⟩ q1163 q136 hn_261 e_265 e_263 rfl ?_
            refine z_dup (n := 211) dX8_land_210 rfl rfl ?_
            refine z_iload_n (n := 212) dX8_land_211 rfl 1 rfl rfl ?_
            refine z_iload_n (n := 213) dX8_land_212 rfl 0 rfl rfl ?_
            refine z_aload_n (n := 214) dX8_land_213 rfl 2 rfl rfl ?_
            refine z_iconst (n := 215) (v := 0) dX8_land_214 rfl (by decide) ?_
            refine z_bipush (n := 217) (v := 30) dX8_land_215 rfl (by decide) ?_
            obtain ⟨n_266, hk_267, hF⟩ := zka_some hF
            obtain ⟨c_271, t_272, c_268, hF⟩ := zc1_some hF
            obtain ⟨s_269, h_270⟩ := t_272
            dsimp only [zn2] at hF
            obtain ⟨cc, hF, hcc⟩ := zpay_some hF
            refine z_payE hcc ?_
            rcases zsum_some hF with ⟨x_274, e_273, hF⟩ | ⟨w_275, e_273, hF⟩
            rotate_left
            · first | rw [e_273] at c_268 ⊢ | rw [e_273] at c_268
              obtain ⟨rfl, rfl⟩ := zpair hF
              refine z_cVx (n := 220) (mc2 := (((0, 0) : Nat × Nat).1 + mE)) (ms2 := (((0, 0) : Nat × Nat).2 + wE)) (st := [.int x_255, .int x_237, .ref o_264, .ref o_264, .ref o_259]) (C_X8_number htr c_268) dX8_land_217 rfl (lw_V q1117 q1119 qs17 q132 q1120) hcee_X8_number rfl (by decide) hk_267 rfl rfl rfl (Nat.le_of_ble_eq_true rfl) (Nat.le_of_eq (Nat.add_comm _ _)) (Nat.le_of_eq (Nat.add_comm _ _)) ?_
              exact z_out rfl (kq _ rfl)
            first | rw [e_273] at c_268 ⊢ | rw [e_273] at c_268
            refine z_cV (n := 220) (mc2 := (cc.1 + mE)) (ms2 := (cc.2 + wE)) (st := [.int x_255, .int x_237, .ref o_264, .ref o_264, .ref o_259]) (C_X8_number htr c_268) dX8_land_217 rfl (lw_V q1117 q1119 qs17 q132 q1120) hcee_X8_number rfl (by decide) hk_267 rfl rfl rfl (Nat.le_of_ble_eq_true rfl) (Nat.le_of_eq (Nat.add_comm _ _)) (Nat.le_of_eq (Nat.add_comm _ _)) ?_
            obtain ⟨c_278, h_277, c_276, hF⟩ := zc1_some hF
            obtain ⟨cc, hF, hcc⟩ := zpay_some hF
            refine z_payE hcc ?_
            refine z_cI (n := 223) (mc2 := (cc.1 + mE)) (ms2 := (cc.2 + wE)) (st := [.ref o_264, .ref o_259]) (C_X11_init htr c_276) dX8_land_220 rfl q1167 q136 q1165 q1166 rfl hcee_X11_init rfl (by decide) rfl (Nat.le_of_ble_eq_true rfl) (Nat.le_of_eq (Nat.add_comm _ _)) (Nat.le_of_eq (Nat.add_comm _ _)) ?_
            obtain ⟨n_279, hk_280, hF⟩ := zka_some hF
            obtain ⟨c_284, t_285, c_281, hF⟩ := zc1_some hF
            obtain ⟨x_282, h_283⟩ := t_285
            dsimp only [zn2] at hF
            obtain ⟨cc, hF, hcc⟩ := zpay_some hF
            refine z_payE hcc ?_
            refine z_cV (n := 226) (mc2 := (cc.1 + mE)) (ms2 := (cc.2 + wE)) (st := []) (C_J2_add htr c_281) dX8_land_223 rfl (lw_V q1144 q645 q646 q109 q647) hcee_J2_add rfl (by decide) hk_280 rfl rfl rfl (Nat.le_of_ble_eq_true rfl) (Nat.le_of_eq (Nat.add_comm _ _)) (Nat.le_of_eq (Nat.add_comm _ _)) ?_
            refine z_pop (n := 227) dX8_land_226 rfl rfl ?_
            refine z_goto (t := 372) dX8_land_227 (by decide) ?_
            refine z_sub [2, 3] rfl ?_
            exact H_24 h_283 _ hF
          clear e_214
          refine z_icmp_ge (n := 170) (t := 174) dX8_land_167 rfl (by decide) (fun hc => ?_) (fun hc => ?_)
          · replace hF := (if_pos hc).symm.trans hF
            refine z_iconst (n := 175) (v := 0) dX8_land_174 rfl (by decide) ?_
            exact H_215 0 _ hF
          · replace hF := (if_neg hc).symm.trans hF
            refine z_iconst (n := 171) (v := 1) dX8_land_170 rfl (by decide) ?_
            refine z_goto (t := 175) dX8_land_171 (by decide) ?_
            exact H_215 1 _ hF
      · replace hF := (if_neg hc).symm.trans hF
        refine z_aload_n (n := 118) dX8_land_117 rfl 0 rfl rfl ?_
        refine z_aload_n (n := 119) dX8_land_118 rfl 1 rfl rfl ?_
        obtain ⟨n_286, hk_287, hF⟩ := zka_some hF
        obtain ⟨hb_288, hF⟩ := zg_some hF
        refine z_getI (n := 122) dX8_land_119 rfl zok1 fX8_150_1 rfl hk_287 (Or.inl (zbig hb_288)) ?_
        refine z_bipush (n := 124) (v := 12) dX8_land_122 rfl (by decide) ?_
        obtain ⟨k_290, e_291, hF⟩ := zlet_ob hF
        have H_292 : ∀ (w_289 : Int32) (cc : Nat × Nat), k_290 w_289 = some (cc, r) → zW l G MX8_land 1025 21142 (cc.1 + mE) (cc.2 + wE) 132 [(0, .ref o0), (1, .ref o_4)] [.int w_289, .ref o0] (hK h_9) (jF h_9) (hI h_9) (hL h_9) Q := by
          intro w_289 cc hF
          subst e_291
          dsimp only at hF
          refine z_iconst (n := 133) (v := 2) dX8_land_132 rfl (by decide) ?_
          obtain ⟨c_296, t_297, c_293, hF⟩ := zc1_some hF
          obtain ⟨s_294, h_295⟩ := t_297
          dsimp only [zn2] at hF
          obtain ⟨cc, hF, hcc⟩ := zpay_some hF
          refine z_payE hcc ?_
          rcases zsum_some hF with ⟨x_299, e_298, hF⟩ | ⟨w_300, e_298, hF⟩
          rotate_left
          · first | rw [e_298] at c_293 ⊢ | rw [e_298] at c_293
            obtain ⟨rfl, rfl⟩ := zpair hF
            refine z_cVx (n := 136) (mc2 := (((0, 0) : Nat × Nat).1 + mE)) (ms2 := (((0, 0) : Nat × Nat).2 + wE)) (st := []) (C_X8_check htr c_293) dX8_land_133 rfl (lw_V q1090 q1092 qs16 q132 q1093) hcee_X8_check rfl (by decide) hk_11 rfl rfl rfl (Nat.le_of_ble_eq_true rfl) (Nat.le_of_eq (Nat.add_comm _ _)) (Nat.le_of_eq (Nat.add_comm _ _)) ?_
            exact z_out rfl (kq _ rfl)
          first | rw [e_298] at c_293 ⊢ | rw [e_298] at c_293
          refine z_cV (n := 136) (mc2 := (cc.1 + mE)) (ms2 := (cc.2 + wE)) (st := []) (C_X8_check htr c_293) dX8_land_133 rfl (lw_V q1090 q1092 qs16 q132 q1093) hcee_X8_check rfl (by decide) hk_11 rfl rfl rfl (Nat.le_of_ble_eq_true rfl) (Nat.le_of_eq (Nat.add_comm _ _)) (Nat.le_of_eq (Nat.add_comm _ _)) ?_
          refine z_aload_n (n := 137) dX8_land_136 rfl 0 rfl rfl ?_
          obtain ⟨n_301, hk_302, hF⟩ := zka_some hF
          obtain ⟨c_305, h_304, c_303, hF⟩ := zc1_some hF
          obtain ⟨cc, hF, hcc⟩ := zpay_some hF
          refine z_payE hcc ?_
          refine z_cV (n := 140) (mc2 := (cc.1 + mE)) (ms2 := (cc.2 + wE)) (st := []) (C_X8_go htr c_303) dX8_land_137 rfl (lw_V q975 q977 qs13 q132 q978) hcee_X8_go rfl (by decide) hk_302 rfl rfl rfl (Nat.le_of_ble_eq_true rfl) (Nat.le_of_eq (Nat.add_comm _ _)) (Nat.le_of_eq (Nat.add_comm _ _)) ?_
          refine z_aload_n (n := 141) dX8_land_140 rfl 0 rfl rfl ?_
          refine z_aload_n (n := 142) dX8_land_141 rfl 1 rfl rfl ?_
          obtain ⟨n_306, hk_307, hF⟩ := zka_some hF
          obtain ⟨c_311, t_312, c_308, hF⟩ := zc1_some hF
          obtain ⟨s_309, h_310⟩ := t_312
          dsimp only [zn2] at hF
          obtain ⟨cc, hF, hcc⟩ := zpay_some hF
          refine z_payE hcc ?_
          rcases zsum_some hF with ⟨x_314, e_313, hF⟩ | ⟨w_315, e_313, hF⟩
          rotate_left
          · first | rw [e_313] at c_308 ⊢ | rw [e_313] at c_308
            obtain ⟨rfl, rfl⟩ := zpair hF
            refine z_cVx (n := 145) (mc2 := (((0, 0) : Nat × Nat).1 + mE)) (ms2 := (((0, 0) : Nat × Nat).2 + wE)) (st := []) (C_X8_river htr c_308) dX8_land_142 rfl (lw_V q1146 q1148 qs18 q132 q1149) hcee_X8_river rfl (by decide) hk_307 rfl rfl rfl (Nat.le_of_ble_eq_true rfl) (Nat.le_of_eq (Nat.add_comm _ _)) (Nat.le_of_eq (Nat.add_comm _ _)) ?_
            exact z_out rfl (kq _ rfl)
          first | rw [e_313] at c_308 ⊢ | rw [e_313] at c_308
          refine z_cV (n := 145) (mc2 := (cc.1 + mE)) (ms2 := (cc.2 + wE)) (st := []) (C_X8_river htr c_308) dX8_land_142 rfl (lw_V q1146 q1148 qs18 q132 q1149) hcee_X8_river rfl (by decide) hk_307 rfl rfl rfl (Nat.le_of_ble_eq_true rfl) (Nat.le_of_eq (Nat.add_comm _ _)) (Nat.le_of_eq (Nat.add_comm _ _)) ?_
          refine z_goto (t := 372) dX8_land_145 (by decide) ?_
          exact H_24 h_310 _ hF
        clear e_291
        refine z_icmp_ge (n := 127) (t := 131) dX8_land_124 rfl (by decide) (fun hc => ?_) (fun hc => ?_)
        · replace hF := (if_pos hc).symm.trans hF
          refine z_iconst (n := 132) (v := 0) dX8_land_131 rfl (by decide) ?_
          exact H_292 0 _ hF
        · replace hF := (if_neg hc).symm.trans hF
          refine z_iconst (n := 128) (v := 1) dX8_land_127 rfl (by decide) ?_
          refine z_goto (t := 132) dX8_land_128 (by decide) ?_
          exact H_292 1 _ hF
    · replace hF := (if_neg hc).symm.trans hF
      refine z_aload_n (n := 28) dX8_land_27 rfl 0 rfl rfl ?_
      refine z_aload_n (n := 29) dX8_land_28 rfl 1 rfl rfl ?_
      obtain ⟨n_316, hk_317, hF⟩ := zka_some hF
      obtain ⟨hb_318, hF⟩ := zg_some hF
      obtain ⟨o_319, hr_320, hF⟩ := zb1_some hF
      refine z_getRS (n := 32) dX8_land_29 rfl zok1 fX8_128_1 rfl hk_317 (Or.inl (zbig hb_318)) hr_320 ?_
      obtain ⟨n_321, hk_322, hF⟩ := zka_some hF
      obtain ⟨x_324, c_323, hF⟩ := zb1_some hF
      refine z_cV (n := 35) (mc2 := (cc.1 + mE)) (ms2 := (cc.2 + wE)) (st := [.ref o0]) (C_J2_size htr c_323) dX8_land_32 rfl (lw_V q1089 q834 q835 q109 q836) hcee_J2_size rfl (by decide) hk_322 rfl rfl rfl (Nat.le_of_ble_eq_true rfl) (Nat.le_refl _) (Nat.le_refl _) ?_
      refine z_bipush (n := 37) (v := 8) dX8_land_35 rfl (by decide) ?_
      obtain ⟨k_326, e_327, hF⟩ := zlet_ob hF
      have H_328 : ∀ (w_325 : Int32) (cc : Nat × Nat), k_326 w_325 = some (cc, r) → zW l G MX8_land 1025 21142 (cc.1 + mE) (cc.2 + wE) 45 [(0, .ref o0), (1, .ref o_4)] [.int w_325, .ref o0] (hK h_9) (jF h_9) (hI h_9) (hL h_9) Q := by
        intro w_325 cc hF
        subst e_327
        dsimp only at hF
        refine z_iconst (n := 46) (v := 2) dX8_land_45 rfl (by decide) ?_
        obtain ⟨c_332, t_333, c_329, hF⟩ := zc1_some hF
        obtain ⟨s_330, h_331⟩ := t_333
        dsimp only [zn2] at hF
        obtain ⟨cc, hF, hcc⟩ := zpay_some hF
        refine z_payE hcc ?_
        rcases zsum_some hF with ⟨x_335, e_334, hF⟩ | ⟨w_336, e_334, hF⟩
        rotate_left
        · first | rw [e_334] at c_329 ⊢ | rw [e_334] at c_329
          obtain ⟨rfl, rfl⟩ := zpair hF
          refine z_cVx (n := 49) (mc2 := (((0, 0) : Nat × Nat).1 + mE)) (ms2 := (((0, 0) : Nat × Nat).2 + wE)) (st := []) (C_X8_check htr c_329) dX8_land_46 rfl (lw_V q1090 q1092 qs16 q132 q1093) hcee_X8_check rfl (by decide) hk_11 rfl rfl rfl (Nat.le_of_ble_eq_true rfl) (Nat.le_of_eq (Nat.add_comm _ _)) (Nat.le_of_eq (Nat.add_comm _ _)) ?_
          exact z_out rfl (kq _ rfl)
        first | rw [e_334] at c_329 ⊢ | rw [e_334] at c_329
        refine z_cV (n := 49) (mc2 := (cc.1 + mE)) (ms2 := (cc.2 + wE)) (st := []) (C_X8_check htr c_329) dX8_land_46 rfl (lw_V q1090 q1092 qs16 q132 q1093) hcee_X8_check rfl (by decide) hk_11 rfl rfl rfl (Nat.le_of_ble_eq_true rfl) (Nat.le_of_eq (Nat.add_comm _ _)) (Nat.le_of_eq (Nat.add_comm _ _)) ?_
        refine z_aload_n (n := 50) dX8_land_49 rfl 0 rfl rfl ?_
        obtain ⟨n_337, hk_338, hF⟩ := zka_some hF
        obtain ⟨c_341, h_340, c_339, hF⟩ := zc1_some hF
        obtain ⟨cc, hF, hcc⟩ := zpay_some hF
        refine z_payE hcc ?_
        refine z_cV (n := 53) (mc2 := (cc.1 + mE)) (ms2 := (cc.2 + wE)) (st := []) (C_X8_go htr c_339) dX8_land_50 rfl (lw_V q975 q977 qs13 q132 q978) hcee_X8_go rfl (by decide) hk_338 rfl rfl rfl (Nat.le_of_ble_eq_true rfl) (Nat.le_of_eq (Nat.add_comm _ _)) (Nat.le_of_eq (Nat.add_comm _ _)) ?_
        refine z_aload_n (n := 54) dX8_land_53 rfl 0 rfl rfl ?_
        refine z_iconst (n := 55) (v := 0) dX8_land_54 rfl (by decide) ?_
        refine z_sipush (n := 58) (v := 999) dX8_land_55 rfl (by decide) ?_
        obtain ⟨n_342, hk_343, hF⟩ := zka_some hF
        obtain ⟨c_347, t_348, c_344, hF⟩ := zc1_some hF
        obtain ⟨s_345, h_346⟩ := t_348
        dsimp only [zn2] at hF
        obtain ⟨cc, hF, hcc⟩ := zpay_some hF
        refine z_payE hcc ?_
        rcases zsum_some hF with ⟨x_350, e_349, hF⟩ | ⟨w_351, e_349, hF⟩
        rotate_left
        · first | rw [e_349] at c_344 ⊢ | rw [e_349] at c_344
          obtain ⟨rfl, rfl⟩ := zpair hF
          refine z_cVx (n := 61) (mc2 := (((0, 0) : Nat × Nat).1 + mE)) (ms2 := (((0, 0) : Nat × Nat).2 + wE)) (st := []) (C_X8_number htr c_344) dX8_land_58 rfl (lw_V q1117 q1119 qs17 q132 q1120) hcee_X8_number rfl (by decide) hk_343 rfl rfl rfl (Nat.le_of_ble_eq_true rfl) (Nat.le_of_eq (Nat.add_comm _ _)) (Nat.le_of_eq (Nat.add_comm _ _)) ?_
          exact z_out rfl (kq _ rfl)
        first | rw [e_349] at c_344 ⊢ | rw [e_349] at c_344
        refine z_cV (n := 61) (mc2 := (cc.1 + mE)) (ms2 := (cc.2 + wE)) (st := []) (C_X8_number htr c_344) dX8_land_58 rfl (lw_V q1117 q1119 qs17 q132 q1120) hcee_X8_number rfl (by decide) hk_343 rfl rfl rfl (Nat.le_of_ble_eq_true rfl) (Nat.le_of_eq (Nat.add_comm _ _)) (Nat.le_of_eq (Nat.add_comm _ _)) ?_
        refine z_istore_nE (n := 62) (lv' := [(2, .int x_350), (0, .ref o0), (1, .ref o_4)]) dX8_land_61 rfl rfl rfl (by decide) rfl ?_
        refine z_aload_n (n := 63) dX8_land_62 rfl 1 rfl rfl ?_
        refine z_iconst (n := 64) (v := 0) dX8_land_63 rfl (by decide) ?_
        refine z_iload_n (n := 65) dX8_land_64 rfl 0 rfl rfl ?_
        obtain ⟨n_352, hk_353, hF⟩ := zka_some hF
        obtain ⟨c_357, t_358, c_354, hF⟩ := zc1_some hF
        obtain ⟨s_355, h_356⟩ := t_358
        dsimp only [zn2] at hF
        obtain ⟨cc, hF, hcc⟩ := zpay_some hF
        refine z_payE hcc ?_
        rcases zsum_some hF with ⟨x_360, e_359, hF⟩ | ⟨w_361, e_359, hF⟩
        rotate_left
        · first | rw [e_359] at c_354 ⊢ | rw [e_359] at c_354
          obtain ⟨rfl, rfl⟩ := zpair hF
          refine z_cVx (n := 68) (mc2 := (((0, 0) : Nat × Nat).1 + mE)) (ms2 := (((0, 0) : Nat × Nat).2 + wE)) (st := []) (C_X8_number htr c_354) dX8_land_65 rfl (lw_V q1117 q1119 qs17 q132 q1120) hcee_X8_number rfl (by decide) hk_353 rfl rfl rfl (Nat.le_of_ble_eq_true rfl) (Nat.le_of_eq (Nat.add_comm _ _)) (Nat.le_of_eq (Nat.add_comm _ _)) ?_
          exact z_out rfl (kq _ rfl)
        first | rw [e_359] at c_354 ⊢ | rw [e_359] at c_354
        refine z_cV (n := 68) (mc2 := (cc.1 + mE)) (ms2 := (cc.2 + wE)) (st := []) (C_X8_number htr c_354) dX8_land_65 rfl (lw_V q1117 q1119 qs17 q132 q1120) hcee_X8_number rfl (by decide) hk_353 rfl rfl rfl (Nat.le_of_ble_eq_true rfl) (Nat.le_of_eq (Nat.add_comm _ _)) (Nat.le_of_eq (Nat.add_comm _ _)) ?_
        refine z_istore_nE (n := 69) (lv' := [(3, .int x_360), (2, .int x_350), (0, .ref o0), (1, .ref o_4)]) dX8_land_68 rfl rfl rfl (by decide) rfl ?_
        refine z_aload_n (n := 70) dX8_land_69 rfl 2 rfl rfl ?_
        refine z_iconst (n := 71) (v := 1) dX8_land_70 rfl (by decide) ?_
        refine z_sipush (n := 74) (v := 999) dX8_land_71 rfl (by decide) ?_
        obtain ⟨n_362, hk_363, hF⟩ := zka_some hF
        obtain ⟨c_367, t_368, c_364, hF⟩ := zc1_some hF
        obtain ⟨s_365, h_366⟩ := t_368
        dsimp only [zn2] at hF
        obtain ⟨cc, hF, hcc⟩ := zpay_some hF
        refine z_payE hcc ?_
        rcases zsum_some hF with ⟨x_370, e_369, hF⟩ | ⟨w_371, e_369, hF⟩
        rotate_left
        · first | rw [e_369] at c_364 ⊢ | rw [e_369] at c_364
          obtain ⟨rfl, rfl⟩ := zpair hF
          refine z_cVx (n := 77) (mc2 := (((0, 0) : Nat × Nat).1 + mE)) (ms2 := (((0, 0) : Nat × Nat).2 + wE)) (st := []) (C_X8_number htr c_364) dX8_land_74 rfl (lw_V q1117 q1119 qs17 q132 q1120) hcee_X8_number rfl (by decide) hk_363 rfl rfl rfl (Nat.le_of_ble_eq_true rfl) (Nat.le_of_eq (Nat.add_comm _ _)) (Nat.le_of_eq (Nat.add_comm _ _)) ?_
          exact z_out rfl (kq _ rfl)
        first | rw [e_369] at c_364 ⊢ | rw [e_369] at c_364
        refine z_cV (n := 77) (mc2 := (cc.1 + mE)) (ms2 := (cc.2 + wE)) (st := []) (C_X8_number htr c_364) dX8_land_74 rfl (lw_V q1117 q1119 qs17 q132 q1120) hcee_X8_number rfl (by decide) hk_363 rfl rfl rfl (Nat.le_of_ble_eq_true rfl) (Nat.le_of_eq (Nat.add_comm _ _)) (Nat.le_of_eq (Nat.add_comm _ _)) ?_
        refine z_istoreE (n := 79) (lv' := [(4, .int x_370), (3, .int x_360), (2, .int x_350), (0, .ref o0), (1, .ref o_4)]) dX8_land_77 rfl rfl (by decide) rfl ?_
        refine z_aload_n (n := 80) dX8_land_79 rfl 4 rfl rfl ?_
        obtain ⟨n_372, hk_373, hF⟩ := zka_some hF
        obtain ⟨o_374, hr_375, hF⟩ := zb1_some hF
        refine z_getRS (n := 83) dX8_land_80 rfl zok1 fX8_128_1 rfl hk_373 (Or.inl (zbig hb_318)) hr_375 ?_
        obtain ⟨cc, hF, hcc⟩ := zpay_some hF
        refine z_payE hcc ?_
        obtain ⟨hn_376, hF⟩ := zg_some hF
        obtain ⟨o_379, e_380, hF⟩ := zlet_ob hF
        obtain ⟨h_377, e_378, hF⟩ := zlet_ob hF
        refine z_newT (n := 86) dX8_land_83 rfl zok9 ⟨_, rfl, rfl, q1122⟩ q1121 q135 hn_376 e_380 e_378 rfl ?_
        refine z_dup (n := 87) dX8_land_86 rfl rfl ?_
        refine z_iload_n (n := 88) dX8_land_87 rfl 2 rfl rfl ?_
        refine z_iload_n (n := 89) dX8_land_88 rfl 1 rfl rfl ?_
        refine z_iload (n := 91) dX8_land_89 rfl 0 rfl ?_
        refine z_aload_n (n := 92) dX8_land_91 rfl 3 rfl rfl ?_
        refine z_iconst (n := 93) (v := 0) dX8_land_92 rfl (by decide) ?_
        refine z_bipush (n := 95) (v := 99) dX8_land_93 rfl (by decide) ?_
        obtain ⟨n_381, hk_382, hF⟩ := zka_some hF
        obtain ⟨c_386, t_387, c_383, hF⟩ := zc1_some hF
        obtain ⟨s_384, h_385⟩ := t_387
        dsimp only [zn2] at hF
        obtain ⟨cc, hF, hcc⟩ := zpay_some hF
        refine z_payE hcc ?_
        rcases zsum_some hF with ⟨x_389, e_388, hF⟩ | ⟨w_390, e_388, hF⟩
        rotate_left
        · first | rw [e_388] at c_383 ⊢ | rw [e_388] at c_383
          obtain ⟨rfl, rfl⟩ := zpair hF
          refine z_cVx (n := 98) (mc2 := (((0, 0) : Nat × Nat).1 + mE)) (ms2 := (((0, 0) : Nat × Nat).2 + wE)) (st := [.int x_370, .int x_360, .int x_350, .ref o_379, .ref o_379, .ref o_374]) (C_X8_number htr c_383) dX8_land_95 rfl (lw_V q1117 q1119 qs17 q132 q1120) hcee_X8_number rfl (by decide) hk_382 rfl rfl rfl (Nat.le_of_ble_eq_true rfl) (Nat.le_of_eq (Nat.add_comm _ _)) (Nat.le_of_eq (Nat.add_comm _ _)) ?_
          exact z_out rfl (kq _ rfl)
        first | rw [e_388] at c_383 ⊢ | rw [e_388] at c_383
        refine z_cV (n := 98) (mc2 := (cc.1 + mE)) (ms2 := (cc.2 + wE)) (st := [.int x_370, .int x_360, .int x_350, .ref o_379, .ref o_379, .ref o_374]) (C_X8_number htr c_383) dX8_land_95 rfl (lw_V q1117 q1119 qs17 q132 q1120) hcee_X8_number rfl (by decide) hk_382 rfl rfl rfl (Nat.le_of_ble_eq_true rfl) (Nat.le_of_eq (Nat.add_comm _ _)) (Nat.le_of_eq (Nat.add_comm _ _)) ?_
        obtain ⟨c_393, h_392, c_391, hF⟩ := zc1_some hF
        obtain ⟨cc, hF, hcc⟩ := zpay_some hF
        refine z_payE hcc ?_
        refine z_cI (n := 101) (mc2 := (cc.1 + mE)) (ms2 := (cc.2 + wE)) (st := [.ref o_379, .ref o_374]) (C_X10_init htr c_391) dX8_land_98 rfl q1125 q135 q1123 q1124 rfl hcee_X10_init rfl (by decide) rfl (Nat.le_of_ble_eq_true rfl) (Nat.le_of_eq (Nat.add_comm _ _)) (Nat.le_of_eq (Nat.add_comm _ _)) ?_
        obtain ⟨n_394, hk_395, hF⟩ := zka_some hF
        obtain ⟨c_399, t_400, c_396, hF⟩ := zc1_some hF
        obtain ⟨x_397, h_398⟩ := t_400
        dsimp only [zn2] at hF
        obtain ⟨cc, hF, hcc⟩ := zpay_some hF
        refine z_payE hcc ?_
        refine z_cV (n := 104) (mc2 := (cc.1 + mE)) (ms2 := (cc.2 + wE)) (st := []) (C_J2_add htr c_396) dX8_land_101 rfl (lw_V q1144 q645 q646 q109 q647) hcee_J2_add rfl (by decide) hk_395 rfl rfl rfl (Nat.le_of_ble_eq_true rfl) (Nat.le_of_eq (Nat.add_comm _ _)) (Nat.le_of_eq (Nat.add_comm _ _)) ?_
        refine z_pop (n := 105) dX8_land_104 rfl rfl ?_
        refine z_goto (t := 372) dX8_land_105 (by decide) ?_
        refine z_sub [3, 4] rfl ?_
        exact H_24 h_398 _ hF
      clear e_327
      refine z_icmp_ge (n := 40) (t := 44) dX8_land_37 rfl (by decide) (fun hc => ?_) (fun hc => ?_)
      · replace hF := (if_pos hc).symm.trans hF
        refine z_iconst (n := 45) (v := 0) dX8_land_44 rfl (by decide) ?_
        exact H_328 0 _ hF
      · replace hF := (if_neg hc).symm.trans hF
        refine z_iconst (n := 41) (v := 1) dX8_land_40 rfl (by decide) ?_
        refine z_goto (t := 45) dX8_land_41 (by decide) ?_
        exact H_328 1 _ hF
set_option maxHeartbeats 1000000 in
theorem C_X8_land {l : Launch} {G : zGt} (htr : l.stackTraces = false) {o0 : Nat} {h : zSt} {cc : Nat × Nat} {r : (Option Nat ⊕ (String × Nat)) × zSt} (hF : F_X8_land o0 h = some (cc, r)) : zMet l G yX8_land (ws_ yX8_land cX8_land 5 (some (.object "SableCrown$Land"))) 1025 21142 (cc.1 + 0) (cc.2 + 0) [.ref o0] (hK h) (jF h) (hI h) (hL h) (zQe (zor r.1) (hK r.2) (jF r.2) (hI r.2) (hL r.2)) := by
  refine zMet.of (by decide +kernel) htr (Nat.le_of_ble_eq_true rfl) ?_
  change zW l G MX8_land 1025 21142 (cc.1 + 0) (cc.2 + 0) 0 [(0, .ref o0)] [] (hK h) (jF h) (hI h) (hL h) (zQe (zor r.1) (hK r.2) (jF r.2) (hI r.2) (hL r.2))
  unfold F_X8_land at hF
  obtain ⟨cc, hF, hcc⟩ := zpay_some hF
  refine z_payE hcc ?_
  obtain ⟨hn_1, hF⟩ := zg_some hF
  obtain ⟨o_4, e_5, hF⟩ := zlet_ob hF
  obtain ⟨h_2, e_3, hF⟩ := zlet_ob hF
  refine z_newT (n := 3) dX8_land_0 rfl zok1 ⟨_, rfl, rfl, q154⟩ q1075 q106 hn_1 e_5 e_3 rfl ?_
  refine z_dup (n := 4) dX8_land_3 rfl rfl ?_
  obtain ⟨c_8, h_7, c_6, hF⟩ := zc1_some hF
  obtain ⟨cc, hF, hcc⟩ := zpay_some hF
  refine z_payE hcc ?_
  refine z_cIN (n := 7) (mc2 := (cc.1 + 0)) (ms2 := (cc.2 + 0)) (st := [.ref o_4]) (C_X2_init htr c_6) dX8_land_4 rfl q157 q106 q1076 q156 rfl hcee_X2_init rfl (by decide) rfl (Nat.le_of_ble_eq_true rfl) (Nat.le_of_eq (Nat.add_comm _ _)) (Nat.le_of_eq (Nat.add_comm _ _)) ?_
  refine z_astore_nS (n := 8) (lv' := [(1, .ref o_4), (0, .ref o0)]) dX8_land_7 rfl rfl (by decide) rfl ?_
  refine z_sub [1, 0] rfl ?_
  rcases zcs_some hF with ⟨c_409, t_410, e_408, hF⟩ | ⟨c_409, t_410, e_408, hF⟩
  · skip
    obtain ⟨cc, hF, hcc⟩ := zpay_some hF
    obtain ⟨h_401, rfl⟩ : ∃ z, z = t_410 := ⟨_, rfl⟩
    have H_411 : zW l G MX8_land 1025 21142 (cc.1 + 0) (cc.2 + 0) 381 [(1, .ref o_4)] [] (hK h_401) (jF h_401) (hI h_401) (hL h_401) (zQe (zor r.1) (hK r.2) (jF r.2) (hI r.2) (hL r.2)) := by
      refine z_aload_n (n := 382) dX8_land_381 rfl 0 rfl rfl ?_
      obtain ⟨n_402, hk_403, hF⟩ := zka_some hF
      obtain ⟨I_405, c_404, hF⟩ := zb1_some hF
      refine z_cV (n := 385) (mc2 := (cc.1 + 0)) (ms2 := (cc.2 + 0)) (st := []) (C_X2_measures htr c_404) dX8_land_382 rfl (lw_V q1342 q1343 q1344 q106 q1345) hcee_X2_measures rfl (by decide) hk_403 rfl rfl rfl (Nat.le_of_ble_eq_true rfl) (Nat.le_refl _) (Nat.le_refl _) ?_
      obtain ⟨h_406, e_407, hF⟩ := zlet_ob hF
      refine z_toFI e_407 ?_
      refine z_aload_n (n := 386) dX8_land_385 rfl 0 rfl rfl ?_
      obtain ⟨rfl, rfl⟩ := zpair hF
      exact z_aret (r := (some o_4)) dX8_land_386 rfl (Or.inl ⟨_, rfl⟩) ⟨rfl, rfl, rfl, rfl, rfl⟩
    refine z_payE hcc ?_
    refine zloopC_ind (P := fun (s : zSt) m w => zW l G MX8_land 1025 21142 (m + (cc.1 + 0)) (w + (cc.2 + 0)) 8 [(0, .ref o0), (1, .ref o_4)] [] (hK s) (jF s) (hI s) (hL s) (zQe (zor r.1) (hK r.2) (jF r.2) (hI r.2) (hL r.2))) (fun s c r E9 W9 hb kl kr => ?_) e_408
    refine z_eq (Nat.add_assoc _ _ _) (Nat.add_assoc _ _ _) ?_
    exact W_X8_land_L8 (o0 := o0) (h := h) htr hb (fun z0 e => kl _ e) (fun y0 e => by obtain ⟨h1, rfl, rfl⟩ := kr _ e; cases h1; exact z_eq (Nat.zero_add _) (Nat.zero_add _) H_411) (fun z e => by have h1 := (kr _ e).1; cases h1)
  · skip
    obtain ⟨cc, hF, hcc⟩ := zpay_some hF
    obtain ⟨h9, hq⟩ := zpair hF
    subst h9
    refine z_payE hcc ?_
    refine zloopC_ind (P := fun (s : zSt) m w => zW l G MX8_land 1025 21142 (m + (((0, 0) : Nat × Nat).1 + 0)) (w + (((0, 0) : Nat × Nat).2 + 0)) 8 [(0, .ref o0), (1, .ref o_4)] [] (hK s) (jF s) (hI s) (hL s) (zQe (zor r.1) (hK r.2) (jF r.2) (hI r.2) (hL r.2))) (fun s c r E9 W9 hb kl kr => ?_) e_408
    refine z_eq (Nat.add_assoc _ _ _) (Nat.add_assoc _ _ _) ?_
    exact W_X8_land_L8 (o0 := o0) (h := h) htr hb (fun z0 e => kl _ e) (fun y0 e => by have h1 := (kr _ e).1; cases h1) (fun z e => by have h1 := (kr _ e).1; cases h1; subst hq; exact ⟨rfl, rfl, rfl, rfl, rfl⟩)
