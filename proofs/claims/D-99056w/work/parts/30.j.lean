theorem fJ2_48_2 : zFld RJ2 48 2 2 := ⟨_, rfl, by decide, _, Or.inl q488, Or.inl rfl⟩
abbrev MJ2_size : zM := (RJ2, cJ2_size, 1, (some .int), "size", [])
noncomputable def F_J2_size (K : zKd) (F : zFd) (o0 : Nat) (I : zId) : Option (Int32) := zka K o0 2 (fun n_1 => zg (decide (600 ≤ o0)) (some (I o0 2)))
set_option maxHeartbeats 1000000 in
theorem C_J2_size {l : Launch} {G : zGt} (htr : l.stackTraces = false) {K : zKd} {F : zFd} {L : zLd} {o0 : Nat} {I : zId} {r : Int32} (hF : F_J2_size K F o0 I = some r) : zMet l G yJ2_size (ws_ yJ2_size cJ2_size 1 (some .int)) 0 0 0 0 [.ref o0] K F I L (zQe (.inl (some (.int r))) K F I L) := by
  refine zMet.of (by decide +kernel) htr (Nat.le_of_ble_eq_true rfl) ?_
  change zW l G MJ2_size 0 0 0 0 0 [(0, .ref o0)] [] K F I L (zQe (.inl (some (.int r))) K F I L)
  unfold F_J2_size at hF
  refine z_aload_n (n := 1) dJ2_size_0 rfl 0 rfl rfl ?_
  obtain ⟨n_1, hk_2, hF⟩ := zka_some hF
  obtain ⟨hb_3, hF⟩ := zg_some hF
  refine z_getI (n := 4) dJ2_size_1 rfl zok2 fJ2_48_2 rfl hk_2 (Or.inl (zbig hb_3)) ?_
  have hF := Option.some.inj hF; subst hF
  exact z_iret dJ2_size_4 rfl rfl ⟨rfl, rfl, rfl, rfl, rfl⟩
theorem fJ2_9_2 : zFld RJ2 9 2 1 := ⟨_, rfl, by decide, _, Or.inl q487, Or.inl rfl⟩
abbrev MJ2_elementData : zM := (RJ2, cJ2_elementData, 2, (some (.object "java/lang/Object")), "elementData", [])
noncomputable def F_J2_elementData (K : zKd) (F : zFd) (o0 : Nat) (a0 : Int32) (I : zId) : Option (Option Nat) := zka K o0 2 (fun n_1 => zg (decide (600 ≤ o0)) (zb1 (F o0 1) (fun o_4 => zka K o_4 68 (fun n_6 => zg (zin a0 n_6) (zb1 (F o_4 a0.toNatClampNeg) (fun o_9 => some (some o_9)))))))
set_option maxHeartbeats 1000000 in
theorem C_J2_elementData {l : Launch} {G : zGt} (htr : l.stackTraces = false) {K : zKd} {F : zFd} {L : zLd} {o0 : Nat} {a0 : Int32} {I : zId} {r : Option Nat} (hF : F_J2_elementData K F o0 a0 I = some r) : zMet l G yJ2_elementData (ws_ yJ2_elementData cJ2_elementData 2 (some (.object "java/lang/Object"))) 0 0 0 0 [.ref o0, .int a0] K F I L (zQe (.inl (some (zrf r))) K F I L) := by
  refine zMet.of (by decide +kernel) htr (Nat.le_of_ble_eq_true rfl) ?_
  change zW l G MJ2_elementData 0 0 0 0 0 [(0, .ref o0), (1, .int a0)] [] K F I L (zQe (.inl (some (zrf r))) K F I L)
  unfold F_J2_elementData at hF
  refine z_aload_n (n := 1) dJ2_elementData_0 rfl 0 rfl rfl ?_
  obtain ⟨n_1, hk_2, hF⟩ := zka_some hF
  obtain ⟨hb_3, hF⟩ := zg_some hF
  obtain ⟨o_4, hr_5, hF⟩ := zb1_some hF
  refine z_getRS (n := 4) dJ2_elementData_1 rfl zok2 fJ2_9_2 rfl hk_2 (Or.inl (zbig hb_3)) hr_5 ?_
  refine z_iload_n (n := 5) dJ2_elementData_4 rfl 1 rfl rfl ?_
  obtain ⟨n_6, hk_7, hF⟩ := zka_some hF
  obtain ⟨h_8, hF⟩ := zg_some hF
  obtain ⟨o_9, hr_10, hF⟩ := zb1_some hF
  refine z_aald4S (n := 6) a0.toNatClampNeg rfl dJ2_elementData_5 rfl hk_7 (zin_ok h_8) hr_10 ?_
  have hF := Option.some.inj hF; subst hF
  exact z_aret (r := (some o_9)) dJ2_elementData_6 rfl (Or.inl ⟨_, rfl⟩) ⟨rfl, rfl, rfl, rfl, rfl⟩
abbrev MJ14_checkIndex : zM := (RJ14, cJ14_checkIndex, 3, (some .int), "checkIndex", [])
noncomputable def F_J14_checkIndex (K : zKd) (F : zFd) (a0 : Int32) (a1 : Int32) (a2 : Option Nat) (I : zId) : Option (Int32) := if a0 < 0 then none else if a0 < a1 then some a0 else none
set_option maxHeartbeats 1000000 in
theorem C_J14_checkIndex {l : Launch} {G : zGt} (htr : l.stackTraces = false) {K : zKd} {F : zFd} {L : zLd} {a0 : Int32} {a1 : Int32} {a2 : Option Nat} {I : zId} {r : Int32} (hF : F_J14_checkIndex K F a0 a1 a2 I = some r) : zMet l G yJ14_checkIndex (ws_ yJ14_checkIndex cJ14_checkIndex 3 (some .int)) 0 0 0 0 [.int a0, .int a1, zrf a2] K F I L (zQe (.inl (some (.int r))) K F I L) := by
  refine zMet.of (by decide +kernel) htr (by cases a2 <;> exact Nat.le_of_ble_eq_true rfl) ?_
  change zW l G MJ14_checkIndex 0 0 0 0 0 [(0, .int a0), (1, .int a1), (2, zrf a2)] [] K F I L (zQe (.inl (some (.int r))) K F I L)
  unfold F_J14_checkIndex at hF
  refine z_iload_n (n := 1) dJ14_checkIndex_0 rfl 0 rfl rfl ?_
  refine z_if_lt (n := 4) (t := 9) dJ14_checkIndex_1 rfl (by decide) (fun hc => ?_) (fun hc => ?_)
  · replace hF := (if_pos hc).symm.trans hF
    refine z_aload_nQ (n := 10) dJ14_checkIndex_9 rfl 2 rfl rfl ?_
    refine z_iload_n (n := 11) dJ14_checkIndex_10 rfl 0 rfl rfl ?_
    refine z_iload_n (n := 12) dJ14_checkIndex_11 rfl 1 rfl rfl ?_
    cases hF -- no link
  · replace hF := (if_neg hc).symm.trans hF
    refine z_iload_n (n := 5) dJ14_checkIndex_4 rfl 0 rfl rfl ?_
    refine z_iload_n (n := 6) dJ14_checkIndex_5 rfl 1 rfl rfl ?_
    refine z_icmp_lt (n := 9) (t := 16) dJ14_checkIndex_6 rfl (by decide) (fun hc => ?_) (fun hc => ?_)
    · replace hF := (if_pos hc).symm.trans hF
      refine z_iload_n (n := 17) dJ14_checkIndex_16 rfl 0 rfl rfl ?_
      have hF := Option.some.inj hF; subst hF
      exact z_iret dJ14_checkIndex_17 rfl rfl ⟨rfl, rfl, rfl, rfl, rfl⟩
    · replace hF := (if_neg hc).symm.trans hF
      refine z_aload_nQ (n := 10) dJ14_checkIndex_9 rfl 2 rfl rfl ?_
      refine z_iload_n (n := 11) dJ14_checkIndex_10 rfl 0 rfl rfl ?_
      refine z_iload_n (n := 12) dJ14_checkIndex_11 rfl 1 rfl rfl ?_
      cases hF -- no link
theorem hcee_J14_checkIndex : zCee yJ14_checkIndex RJ14 3 := ⟨rfl, by decide +kernel, by decide +kernel, by decide +kernel⟩
abbrev MJ19_checkIndex : zM := (RJ19, cJ19_checkIndex, 2, (some .int), "checkIndex", [])
noncomputable def F_J19_checkIndex (K : zKd) (F : zFd) (a0 : Int32) (a1 : Int32) (I : zId) : Option (Int32) := zb1 (F_J14_checkIndex K F a0 a1 none I) (fun x_2 => some x_2)
set_option maxHeartbeats 1000000 in
theorem C_J19_checkIndex {l : Launch} {G : zGt} (htr : l.stackTraces = false) {K : zKd} {F : zFd} {L : zLd} {a0 : Int32} {a1 : Int32} {I : zId} {r : Int32} (hF : F_J19_checkIndex K F a0 a1 I = some r) : zMet l G yJ19_checkIndex (ws_ yJ19_checkIndex cJ19_checkIndex 2 (some .int)) 1 22 0 0 [.int a0, .int a1] K F I L (zQe (.inl (some (.int r))) K F I L) := by
  refine zMet.of (by decide +kernel) htr (Nat.le_of_ble_eq_true rfl) ?_
  change zW l G MJ19_checkIndex 1 22 0 0 0 [(0, .int a0), (1, .int a1)] [] K F I L (zQe (.inl (some (.int r))) K F I L)
  unfold F_J19_checkIndex at hF
  refine z_iload_n (n := 1) dJ19_checkIndex_0 rfl 0 rfl rfl ?_
  refine z_iload_n (n := 2) dJ19_checkIndex_1 rfl 1 rfl rfl ?_
  refine z_null (n := 3) dJ19_checkIndex_2 rfl ?_
  obtain ⟨x_2, c_1, hF⟩ := zb1_some hF
  refine z_cS (n := 6) (st := []) (C_J14_checkIndex htr c_1) dJ19_checkIndex_3 rfl (lw_S q804 q805 q122 q806) hcee_J14_checkIndex rfl (by decide) rfl (Nat.le_of_ble_eq_true rfl) (Nat.le_refl _) (Nat.le_refl _) ?_
  have hF := Option.some.inj hF; subst hF
  exact z_iret dJ19_checkIndex_6 rfl rfl ⟨rfl, rfl, rfl, rfl, rfl⟩
theorem hcee_J19_checkIndex : zCee yJ19_checkIndex RJ19 2 := ⟨rfl, by decide +kernel, by decide +kernel, by decide +kernel⟩
theorem hcee_J2_elementData : zCee yJ2_elementData RJ2 1 := ⟨rfl, by decide +kernel, by decide +kernel, by decide +kernel⟩
abbrev MJ2_get : zM := (RJ2, cJ2_get, 2, (some (.object "java/lang/Object")), "get", [])
noncomputable def F_J2_get (K : zKd) (F : zFd) (o0 : Nat) (a0 : Int32) (I : zId) : Option (Option Nat) := zka K o0 2 (fun n_1 => zg (decide (600 ≤ o0)) (zb1 (F_J19_checkIndex K F a0 (I o0 2) I) (fun x_5 => zb1 (F_J2_elementData K F o0 a0 I) (fun q_7 => zb1 q_7 (fun o_8 => some (some o_8))))))
set_option maxHeartbeats 1000000 in
theorem C_J2_get {l : Launch} {G : zGt} (htr : l.stackTraces = false) {K : zKd} {F : zFd} {L : zLd} {o0 : Nat} {a0 : Int32} {I : zId} {r : Option Nat} (hF : F_J2_get K F o0 a0 I = some r) : zMet l G yJ2_get (ws_ yJ2_get cJ2_get 2 (some (.object "java/lang/Object"))) 2 43 0 0 [.ref o0, .int a0] K F I L (zQe (.inl (some (zrf r))) K F I L) := by
  refine zMet.of (by decide +kernel) htr (Nat.le_of_ble_eq_true rfl) ?_
  change zW l G MJ2_get 2 43 0 0 0 [(0, .ref o0), (1, .int a0)] [] K F I L (zQe (.inl (some (zrf r))) K F I L)
  unfold F_J2_get at hF
  refine z_iload_n (n := 1) dJ2_get_0 rfl 1 rfl rfl ?_
  refine z_aload_n (n := 2) dJ2_get_1 rfl 0 rfl rfl ?_
  obtain ⟨n_1, hk_2, hF⟩ := zka_some hF
  obtain ⟨hb_3, hF⟩ := zg_some hF
  refine z_getI (n := 5) dJ2_get_2 rfl zok2 fJ2_48_2 rfl hk_2 (Or.inl (zbig hb_3)) ?_
  obtain ⟨x_5, c_4, hF⟩ := zb1_some hF
  refine z_cS (n := 8) (st := []) (C_J19_checkIndex htr c_4) dJ2_get_5 rfl (lw_S q801 q802 q137 q803) hcee_J19_checkIndex rfl (by decide) rfl (Nat.le_of_ble_eq_true rfl) (Nat.le_refl _) (Nat.le_refl _) ?_
  refine z_pop (n := 9) dJ2_get_8 rfl rfl ?_
  refine z_aload_n (n := 10) dJ2_get_9 rfl 0 rfl rfl ?_
  refine z_iload_n (n := 11) dJ2_get_10 rfl 1 rfl rfl ?_
  obtain ⟨q_7, c_6, hF⟩ := zb1_some hF
  refine z_cV (n := 14) (st := []) (C_J2_elementData htr c_6) dJ2_get_11 rfl (lw_V q816 q817 q818 q109 q819) hcee_J2_elementData rfl (by decide) hk_2 rfl rfl rfl (Nat.le_of_ble_eq_true rfl) (Nat.le_refl _) (Nat.le_refl _) ?_
  obtain ⟨o_8, hr_9, hF⟩ := zb1_some hF
  rw [hr_9]
  have hF := Option.some.inj hF; subst hF
  exact z_aret (r := (some o_8)) dJ2_get_14 rfl (Or.inl ⟨_, rfl⟩) ⟨rfl, rfl, rfl, rfl, rfl⟩
theorem fJ17_205_17 : zFld RJ17 205 17 0 := ⟨_, rfl, by decide, _, Or.inl q1209, Or.inl rfl⟩
abbrev MJ17_intValue : zM := (RJ17, cJ17_intValue, 1, (some .int), "intValue", [])
noncomputable def F_J17_intValue (K : zKd) (F : zFd) (o0 : Nat) (I : zId) : Option (Int32) := zka K o0 17 (fun n_1 => some (I o0 0))
set_option maxHeartbeats 1000000 in
theorem C_J17_intValue {l : Launch} {G : zGt} (htr : l.stackTraces = false) {K : zKd} {F : zFd} {L : zLd} {o0 : Nat} {I : zId} {r : Int32} (hF : F_J17_intValue K F o0 I = some r) : zMet l G yJ17_intValue (ws_ yJ17_intValue cJ17_intValue 1 (some .int)) 0 0 0 0 [.ref o0] K F I L (zQe (.inl (some (.int r))) K F I L) := by
  refine zMet.of (by decide +kernel) htr (Nat.le_of_ble_eq_true rfl) ?_
  change zW l G MJ17_intValue 0 0 0 0 0 [(0, .ref o0)] [] K F I L (zQe (.inl (some (.int r))) K F I L)
  unfold F_J17_intValue at hF
  refine z_aload_n (n := 1) dJ17_intValue_0 rfl 0 rfl rfl ?_
  obtain ⟨n_1, hk_2, hF⟩ := zka_some hF
  refine z_getI (n := 4) dJ17_intValue_1 rfl zok17 fJ17_205_17 rfl hk_2 (Or.inr rfl) ?_
  have hF := Option.some.inj hF; subst hF
  exact z_iret dJ17_intValue_4 rfl rfl ⟨rfl, rfl, rfl, rfl, rfl⟩
abbrev MJ0_init : zM := (RJ0, cJ0_init, 1, none, "<init>", [])
noncomputable def F_J0_init (o0 : Nat) (h : zSt) : Option ((Nat × Nat) × (zSt)) := some ((0, 0), h)
set_option maxHeartbeats 1000000 in
theorem C_J0_init {l : Launch} {G : zGt} (htr : l.stackTraces = false) {o0 : Nat} {h : zSt} {cc : Nat × Nat} {r : zSt} (hF : F_J0_init o0 h = some (cc, r)) : zMet l G yJ0_init (ws_ yJ0_init cJ0_init 1 none) 1 24 (cc.1 + 0) (cc.2 + 0) [.ref o0] (hK h) (jF h) (hI h) (hL h) (zQe (.inl none) (hK r) (jF r) (hI r) (hL r)) := by
  refine zMet.of (by decide +kernel) htr (Nat.le_of_ble_eq_true rfl) ?_
  change zW l G MJ0_init 1 24 (cc.1 + 0) (cc.2 + 0) 0 [(0, .ref o0)] [] (hK h) (jF h) (hI h) (hL h) (zQe (.inl none) (hK r) (jF r) (hI r) (hL r))
  unfold F_J0_init at hF
  refine z_aload_n (n := 1) dJ0_init_0 rfl 0 rfl rfl ?_
  refine z_objInit (n := 4) dJ0_init_1 rfl q170 q151 q152 (by decide) (Nat.le_of_ble_eq_true rfl) ?_
  obtain ⟨rfl, rfl⟩ := zpair hF
  exact z_vret dJ0_init_4 rfl ⟨rfl, rfl, rfl, rfl, rfl⟩
theorem fJ1_7_2 : zFld RJ1 7 2 0 := ⟨_, rfl, by decide, _, Or.inl q489, Or.inl rfl⟩
theorem hcee_J0_init : zCee yJ0_init RJ0 0 := ⟨rfl, by decide +kernel, by decide +kernel, by decide +kernel⟩
abbrev MJ1_init : zM := (RJ1, cJ1_init, 1, none, "<init>", [])
noncomputable def F_J1_init (o0 : Nat) (h : zSt) : Option ((Nat × Nat) × (zSt)) := zc1 (F_J0_init o0 h) (fun c_3 h_2 => zpay c_3 (zka (hK h_2) o0 2 (fun n_4 => zg (decide (600 ≤ o0)) (zlet (zsI h_2 (zu (hI h_2) o0 0 0)) (fun h_7 => some ((0, 0), h_7))))))
set_option maxHeartbeats 1000000 in
theorem C_J1_init {l : Launch} {G : zGt} (htr : l.stackTraces = false) {o0 : Nat} {h : zSt} {cc : Nat × Nat} {r : zSt} (hF : F_J1_init o0 h = some (cc, r)) : zMet l G yJ1_init (ws_ yJ1_init cJ1_init 1 none) 2 44 (cc.1 + 0) (cc.2 + 0) [.ref o0] (hK h) (jF h) (hI h) (hL h) (zQe (.inl none) (hK r) (jF r) (hI r) (hL r)) := by
  refine zMet.of (by decide +kernel) htr (Nat.le_of_ble_eq_true rfl) ?_
  change zW l G MJ1_init 2 44 (cc.1 + 0) (cc.2 + 0) 0 [(0, .ref o0)] [] (hK h) (jF h) (hI h) (hL h) (zQe (.inl none) (hK r) (jF r) (hI r) (hL r))
  unfold F_J1_init at hF
  refine z_aload_n (n := 1) dJ1_init_0 rfl 0 rfl rfl ?_
  obtain ⟨c_3, h_2, c_1, hF⟩ := zc1_some hF
  obtain ⟨cc, hF, hcc⟩ := zpay_some hF
  refine z_payE hcc ?_
  refine z_cI (n := 4) (mc2 := (cc.1 + 0)) (ms2 := (cc.2 + 0)) (st := []) (C_J0_init htr c_1) dJ1_init_1 rfl q169 q107 q167 q168 rfl hcee_J0_init rfl (by decide) rfl (Nat.le_of_ble_eq_true rfl) (Nat.le_of_eq (Nat.add_comm _ _)) (Nat.le_of_eq (Nat.add_comm _ _)) ?_
  refine z_aload_n (n := 5) dJ1_init_4 rfl 0 rfl rfl ?_
  refine z_iconst (n := 6) (v := 0) dJ1_init_5 rfl (by decide) ?_
  obtain ⟨n_4, hk_5, hF⟩ := zka_some hF
  obtain ⟨hb_6, hF⟩ := zg_some hF
  obtain ⟨h_7, e_8, hF⟩ := zlet_ob hF
  refine z_putIE (n := 9) dJ1_init_6 rfl zok2 fJ1_7_2 (Or.inl ⟨_, rfl, rfl⟩) rfl ⟨rfl, rfl⟩ hk_5 (zbig hb_6) rfl ?_
  refine z_toI e_8 ?_
  obtain ⟨rfl, rfl⟩ := zpair hF
  exact z_vret dJ1_init_9 rfl ⟨rfl, rfl, rfl, rfl, rfl⟩
theorem fJ7_79_16 : zFld RJ7 79 16 3 := ⟨_, rfl, by decide, _, Or.inl q237, Or.inl rfl⟩
abbrev MJ7_length : zM := (RJ7, cJ7_length, 1, (some .int), "length", [])
noncomputable def F_J7_length (K : zKd) (F : zFd) (o0 : Nat) (I : zId) : Option (Int32) := zka K o0 16 (fun n_1 => zg (decide (600 ≤ o0)) (some (I o0 3)))
set_option maxHeartbeats 1000000 in
theorem C_J7_length {l : Launch} {G : zGt} (htr : l.stackTraces = false) {K : zKd} {F : zFd} {L : zLd} {o0 : Nat} {I : zId} {r : Int32} (hF : F_J7_length K F o0 I = some r) : zMet l G yJ7_length (ws_ yJ7_length cJ7_length 1 (some .int)) 0 0 0 0 [.ref o0] K F I L (zQe (.inl (some (.int r))) K F I L) := by
  refine zMet.of (by decide +kernel) htr (Nat.le_of_ble_eq_true rfl) ?_
  change zW l G MJ7_length 0 0 0 0 0 [(0, .ref o0)] [] K F I L (zQe (.inl (some (.int r))) K F I L)
  unfold F_J7_length at hF
  refine z_aload_n (n := 1) dJ7_length_0 rfl 0 rfl rfl ?_
  obtain ⟨n_1, hk_2, hF⟩ := zka_some hF
  obtain ⟨hb_3, hF⟩ := zg_some hF
  refine z_getI (n := 4) dJ7_length_1 rfl zok16 fJ7_79_16 rfl hk_2 (Or.inl (zbig hb_3)) ?_
  have hF := Option.some.inj hF; subst hF
  exact z_iret dJ7_length_4 rfl rfl ⟨rfl, rfl, rfl, rfl, rfl⟩
theorem hcee_J7_length : zCee yJ7_length RJ7 0 := ⟨rfl, by decide +kernel, by decide +kernel, by decide +kernel⟩
abbrev MJ8_length : zM := (RJ8, cJ8_length, 1, (some .int), "length", [])
noncomputable def F_J8_length (K : zKd) (F : zFd) (o0 : Nat) (I : zId) : Option (Int32) := zka K o0 16 (fun n_1 => zb1 (F_J7_length K F o0 I) (fun x_4 => some x_4))
set_option maxHeartbeats 1000000 in
theorem C_J8_length {l : Launch} {G : zGt} (htr : l.stackTraces = false) {K : zKd} {F : zFd} {L : zLd} {o0 : Nat} {I : zId} {r : Int32} (hF : F_J8_length K F o0 I = some r) : zMet l G yJ8_length (ws_ yJ8_length cJ8_length 1 (some .int)) 1 20 0 0 [.ref o0] K F I L (zQe (.inl (some (.int r))) K F I L) := by
  refine zMet.of (by decide +kernel) htr (Nat.le_of_ble_eq_true rfl) ?_
  change zW l G MJ8_length 1 20 0 0 0 [(0, .ref o0)] [] K F I L (zQe (.inl (some (.int r))) K F I L)
  unfold F_J8_length at hF
  refine z_aload_n (n := 1) dJ8_length_0 rfl 0 rfl rfl ?_
  obtain ⟨n_1, hk_2, hF⟩ := zka_some hF
  obtain ⟨x_4, c_3, hF⟩ := zb1_some hF
  refine z_cSU (n := 4) (st := []) (C_J7_length htr c_3) dJ8_length_1 rfl q419 q418 q414 q246 q413 q114 ⟨by decide, hcee_J7_length.2.2.2⟩ rfl (by decide) hk_2 rfl rfl (Nat.le_of_ble_eq_true rfl) (Nat.le_refl _) (Nat.le_refl _) ?_
  have hF := Option.some.inj hF; subst hF
  exact z_iret dJ8_length_4 rfl rfl ⟨rfl, rfl, rfl, rfl, rfl⟩
theorem fJ7_15_16 : zFld RJ7 15 16 0 := ⟨_, rfl, by decide, _, Or.inl q234, Or.inl rfl⟩
abbrev MJ7_getValue : zM := (RJ7, cJ7_getValue, 1, (some (.array .byte)), "getValue", [])
noncomputable def F_J7_getValue (K : zKd) (F : zFd) (o0 : Nat) (I : zId) : Option (Option Nat) := zka K o0 16 (fun n_1 => zg (decide (600 ≤ o0)) (zb1 (F o0 0) (fun o_4 => some (some o_4))))
set_option maxHeartbeats 1000000 in
theorem C_J7_getValue {l : Launch} {G : zGt} (htr : l.stackTraces = false) {K : zKd} {F : zFd} {L : zLd} {o0 : Nat} {I : zId} {r : Option Nat} (hF : F_J7_getValue K F o0 I = some r) : zMet l G yJ7_getValue (ws_ yJ7_getValue cJ7_getValue 1 (some (.array .byte))) 0 0 0 0 [.ref o0] K F I L (zQe (.inl (some (zrf r))) K F I L) := by
  refine zMet.of (by decide +kernel) htr (Nat.le_of_ble_eq_true rfl) ?_
  change zW l G MJ7_getValue 0 0 0 0 0 [(0, .ref o0)] [] K F I L (zQe (.inl (some (zrf r))) K F I L)
  unfold F_J7_getValue at hF
  refine z_aload_n (n := 1) dJ7_getValue_0 rfl 0 rfl rfl ?_
  obtain ⟨n_1, hk_2, hF⟩ := zka_some hF
  obtain ⟨hb_3, hF⟩ := zg_some hF
  obtain ⟨o_4, hr_5, hF⟩ := zb1_some hF
  refine z_getRS (n := 4) dJ7_getValue_1 rfl zok16 fJ7_15_16 rfl hk_2 (Or.inl (zbig hb_3)) hr_5 ?_
  have hF := Option.some.inj hF; subst hF
  exact z_aret (r := (some o_4)) dJ7_getValue_4 rfl (Or.inr ⟨_, rfl⟩) ⟨rfl, rfl, rfl, rfl, rfl⟩
theorem fJ7_22_16 : zFld RJ7 22 16 1 := ⟨_, rfl, by decide, _, Or.inl q235, Or.inl rfl⟩
abbrev MJ7_isLatin1 : zM := (RJ7, cJ7_isLatin1, 1, (some .boolean), "isLatin1", [])
noncomputable def F_J7_isLatin1 (K : zKd) (F : zFd) (o0 : Nat) (I : zId) : Option (Int32) := if (1 : Int32) = 0 then some 0 else zka K o0 16 (fun n_1 => zg (decide (600 ≤ o0)) (if ¬ (I o0 1) = 0 then some 0 else some 1))
set_option maxHeartbeats 1000000 in
theorem C_J7_isLatin1 {l : Launch} {G : zGt} (htr : l.stackTraces = false) {K : zKd} {F : zFd} {L : zLd} {o0 : Nat} {I : zId} {r : Int32} (hF : F_J7_isLatin1 K F o0 I = some r) : zMet l G yJ7_isLatin1 (ws_ yJ7_isLatin1 cJ7_isLatin1 1 (some .boolean)) 0 0 0 0 [.ref o0] K F I L (zQe (.inl (some (.int r))) K F I L) := by
  refine zMet.of (by decide +kernel) htr (Nat.le_of_ble_eq_true rfl) ?_
  change zW l G MJ7_isLatin1 0 0 0 0 0 [(0, .ref o0)] [] K F I L (zQe (.inl (some (.int r))) K F I L)
  unfold F_J7_isLatin1 at hF
  refine z_gets (n := 3) (v := .int 1) dJ7_isLatin1_0 rfl zst_String_COMPACT_STRINGS q225 (fun j h => by cases h) ?_
  refine z_if_eq (n := 6) (t := 17) dJ7_isLatin1_3 rfl (by decide) (fun hc => ?_) (fun hc => ?_)
  · replace hF := (if_pos hc).symm.trans hF
    refine z_iconst (n := 18) (v := 0) dJ7_isLatin1_17 rfl (by decide) ?_
    have hF := Option.some.inj hF; subst hF
    exact z_iret dJ7_isLatin1_18 rfl rfl ⟨rfl, rfl, rfl, rfl, rfl⟩
  · replace hF := (if_neg hc).symm.trans hF
    refine z_aload_n (n := 7) dJ7_isLatin1_6 rfl 0 rfl rfl ?_
    obtain ⟨n_1, hk_2, hF⟩ := zka_some hF
    obtain ⟨hb_3, hF⟩ := zg_some hF
    refine z_getI (n := 10) dJ7_isLatin1_7 rfl zok16 fJ7_22_16 rfl hk_2 (Or.inl (zbig hb_3)) ?_
    refine z_if_ne (n := 13) (t := 17) dJ7_isLatin1_10 rfl (by decide) (fun hc => ?_) (fun hc => ?_)
    · replace hF := (if_pos hc).symm.trans hF
      refine z_iconst (n := 18) (v := 0) dJ7_isLatin1_17 rfl (by decide) ?_
      have hF := Option.some.inj hF; subst hF
      exact z_iret dJ7_isLatin1_18 rfl rfl ⟨rfl, rfl, rfl, rfl, rfl⟩
    · replace hF := (if_neg hc).symm.trans hF
      refine z_iconst (n := 14) (v := 1) dJ7_isLatin1_13 rfl (by decide) ?_
      refine z_goto (t := 18) dJ7_isLatin1_14 (by decide) ?_
      have hF := Option.some.inj hF; subst hF
      exact z_iret dJ7_isLatin1_18 rfl rfl ⟨rfl, rfl, rfl, rfl, rfl⟩
abbrev MJ13_checkLength : zM := (RJ13, cJ13_checkLength, 2, none, "checkLength", [])
noncomputable def F_J13_checkLength (K : zKd) (F : zFd) (a0 : Int32) (a1 : Int32) (I : zId) : Option (zId) := if a0 ≤ a1 then some I else none
set_option maxHeartbeats 1000000 in
theorem C_J13_checkLength {l : Launch} {G : zGt} (htr : l.stackTraces = false) {K : zKd} {F : zFd} {L : zLd} {a0 : Int32} {a1 : Int32} {I : zId} {r : zId} (hF : F_J13_checkLength K F a0 a1 I = some r) : zMet l G yJ13_checkLength (ws_ yJ13_checkLength cJ13_checkLength 2 none) 0 0 0 0 [.int a0, .int a1] K F I L (zQe (.inl none) K F r L) := by
  refine zMet.of (by decide +kernel) htr (Nat.le_of_ble_eq_true rfl) ?_
  change zW l G MJ13_checkLength 0 0 0 0 0 [(0, .int a0), (1, .int a1)] [] K F I L (zQe (.inl none) K F r L)
  unfold F_J13_checkLength at hF
  refine z_iload_n (n := 1) dJ13_checkLength_0 rfl 1 rfl rfl ?_
  refine z_iload_n (n := 2) dJ13_checkLength_1 rfl 0 rfl rfl ?_
  refine z_icmp_ge (n := 5) (t := 37) dJ13_checkLength_2 rfl (by decide) (fun hc => ?_) (fun hc => ?_)
  · replace hF := (if_pos hc).symm.trans hF
    have hF := Option.some.inj hF; subst hF
    exact z_vret dJ13_checkLength_37 rfl ⟨rfl, rfl, rfl, rfl, rfl⟩
  · replace hF := (if_neg hc).symm.trans hF
    cases hF -- new java/lang/IllegalArgumentException
theorem hcee_J13_checkLength : zCee yJ13_checkLength RJ13 2 := ⟨rfl, by decide +kernel, by decide +kernel, by decide +kernel⟩
abbrev MJ13_copyOfRangeByte : zM := (RJ13, cJ13_copyOfRangeByte, 5, (some (.array .byte)), "copyOfRangeByte", [])
noncomputable def F_J13_copyOfRangeByte (a0 : Nat) (a1 : Int32) (a2 : Int32) (h : zSt) : Option ((Nat × Nat) × (Option Nat × zSt)) := zb1 (F_J13_checkLength (hK h) (jF h) a1 a2 (hI h)) (fun I_2 => zlet (zsFI h (jF h) I_2) (fun h_3 => zlet (a2 - a1) (fun v3_5 => zg (zarrn v3_5) (zpay (1, v3_5.toNatClampNeg) (zg (zfree h_3) (zlet (hN h_3) (fun o_11 => zlet (znA h_3 65 v3_5.toNatClampNeg) (fun h_9 => zka (hK h_9) a0 65 (fun n_13 => zka (hK h_9) o_11 65 (fun n_15 => zg (decide (600 ≤ a0)) (zg (decide (600 ≤ o_11)) (zg (zcpok a1 0 (zmin ((nI n_13) - a1) v3_5) n_13 n_15) (zg (zcpfb (hI h_9) a0 a1.toNatClampNeg ((zmin ((nI n_13) - a1) v3_5).toNatClampNeg)) (zlet (zsI h_9 (zcpy (hI h_9) a0 a1.toNatClampNeg o_11 0 ((zmin ((nI n_13) - a1) v3_5).toNatClampNeg))) (fun h_21 => some ((0, 0), ((some o_11), h_21)))))))))))))))))
set_option maxHeartbeats 1000000 in
theorem C_J13_copyOfRangeByte {l : Launch} {G : zGt} (htr : l.stackTraces = false) {a0 : Nat} {a1 : Int32} {a2 : Int32} {h : zSt} {cc : Nat × Nat} {r : Option Nat × zSt} (hF : F_J13_copyOfRangeByte a0 a1 a2 h = some (cc, r)) : zMet l G yJ13_copyOfRangeByte (ws_ yJ13_copyOfRangeByte cJ13_copyOfRangeByte 5 (some (.array .byte))) 1 60 (cc.1 + 0) (cc.2 + 0) [.ref a0, .int a1, .int a2] (hK h) (jF h) (hI h) (hL h) (zQe (.inl (some (zrf r.1))) (hK r.2) (jF r.2) (hI r.2) (hL r.2)) := by
  refine zMet.of (by decide +kernel) htr (Nat.le_of_ble_eq_true rfl) ?_
  change zW l G MJ13_copyOfRangeByte 1 60 (cc.1 + 0) (cc.2 + 0) 0 [(0, .ref a0), (1, .int a1), (2, .int a2)] [] (hK h) (jF h) (hI h) (hL h) (zQe (.inl (some (zrf r.1))) (hK r.2) (jF r.2) (hI r.2) (hL r.2))
  unfold F_J13_copyOfRangeByte at hF
  refine z_iload_n (n := 1) dJ13_copyOfRangeByte_0 rfl 1 rfl rfl ?_
  refine z_iload_n (n := 2) dJ13_copyOfRangeByte_1 rfl 2 rfl rfl ?_
  obtain ⟨I_2, c_1, hF⟩ := zb1_some hF
  refine z_cS (n := 5) (mc2 := (cc.1 + 0)) (ms2 := (cc.2 + 0)) (st := []) (C_J13_checkLength htr c_1) dJ13_copyOfRangeByte_2 rfl (lw_S q427 q428 q120 q429) hcee_J13_checkLength rfl (by decide) rfl (Nat.le_of_ble_eq_true rfl) (Nat.le_refl _) (Nat.le_refl _) ?_
  obtain ⟨h_3, e_4, hF⟩ := zlet_ob hF
  refine z_toFI e_4 ?_
  refine z_iload_n (n := 6) dJ13_copyOfRangeByte_5 rfl 2 rfl rfl ?_
  refine z_iload_n (n := 7) dJ13_copyOfRangeByte_6 rfl 1 rfl rfl ?_
  refine z_isub (n := 8) dJ13_copyOfRangeByte_7 rfl ?_
  obtain ⟨v3_5, e_6, hF⟩ := zlet_ob hF
  refine z_istore_nE (n := 9) (lv' := [(3, .int v3_5), (0, .ref a0), (1, .int a1), (2, .int a2)]) dJ13_copyOfRangeByte_8 rfl e_6 rfl (by decide) rfl ?_
  refine z_iload_n (n := 10) dJ13_copyOfRangeByte_9 rfl 0 rfl rfl ?_
  obtain ⟨h_7, hF⟩ := zg_some hF
  obtain ⟨cc, hF, hcc⟩ := zpay_some hF
  refine z_payE hcc ?_
  obtain ⟨hn_8, hF⟩ := zg_some hF
  obtain ⟨o_11, e_12, hF⟩ := zlet_ob hF
  obtain ⟨h_9, e_10, hF⟩ := zlet_ob hF
  refine z_newaT (t := 1) (n := 12) .byte dJ13_copyOfRangeByte_10 rfl rfl (by decide) q247 h_7 rfl (by decide) hn_8 e_12 e_10 ?_
  refine z_astoreS (n := 14) (lv' := [(4, .ref o_11), (3, .int v3_5), (0, .ref a0), (1, .int a1), (2, .int a2)]) dJ13_copyOfRangeByte_12 rfl (by decide) rfl ?_
  refine z_aload_n (n := 15) dJ13_copyOfRangeByte_14 rfl 2 rfl rfl ?_
  refine z_iload_n (n := 16) dJ13_copyOfRangeByte_15 rfl 3 rfl rfl ?_
  refine z_aload (n := 18) dJ13_copyOfRangeByte_16 rfl 0 rfl ?_
  refine z_iconst (n := 19) (v := 0) dJ13_copyOfRangeByte_18 rfl (by decide) ?_
  refine z_aload_n (n := 20) dJ13_copyOfRangeByte_19 rfl 2 rfl rfl ?_
  obtain ⟨n_13, hk_14, hF⟩ := zka_some hF
  refine z_alen (n := 21) 1 (by decide) dJ13_copyOfRangeByte_20 rfl hk_14 ?_
  refine z_iload_n (n := 22) dJ13_copyOfRangeByte_21 rfl 3 rfl rfl ?_
  refine z_isub (n := 23) dJ13_copyOfRangeByte_22 rfl ?_
  refine z_iload_n (n := 24) dJ13_copyOfRangeByte_23 rfl 1 rfl rfl ?_
  refine z_min (n := 27) dJ13_copyOfRangeByte_24 rfl q289 q290 q119 q291 (by decide) (Nat.le_of_ble_eq_true rfl) ?_
  obtain ⟨n_15, hk_16, hF⟩ := zka_some hF
  obtain ⟨hb_17, hF⟩ := zg_some hF
  obtain ⟨hb_18, hF⟩ := zg_some hF
  obtain ⟨h_19, hF⟩ := zg_some hF
  obtain ⟨h_20, hF⟩ := zg_some hF
  obtain ⟨h_21, e_22, hF⟩ := zlet_ob hF
  refine z_copyb (sk := a1.toNatClampNeg) (dk := 0) (nk := ((zmin ((nI n_13) - a1) v3_5).toNatClampNeg)) (n := 30) dJ13_copyOfRangeByte_27 rfl q292 q294 q293 q121 hk_14 hk_16 (zbig hb_17) (zbig hb_18) h_19 h_20 rfl (by decide) rfl rfl (by decide) (Nat.le_of_ble_eq_true rfl) ?_
  refine z_toI e_22 ?_
  refine z_aload (n := 32) dJ13_copyOfRangeByte_30 rfl 0 rfl ?_
  obtain ⟨rfl, rfl⟩ := zpair hF
  exact z_aret (r := (some o_11)) dJ13_copyOfRangeByte_32 rfl (Or.inr ⟨_, rfl⟩) ⟨rfl, rfl, rfl, rfl, rfl⟩
theorem hcee_J13_copyOfRangeByte : zCee yJ13_copyOfRangeByte RJ13 3 := ⟨rfl, by decide +kernel, by decide +kernel, by decide +kernel⟩
abbrev MJ13_copyOfRange : zM := (RJ13, cJ13_copyOfRange, 3, (some (.array .byte)), "copyOfRange", [])
noncomputable def F_J13_copyOfRange (a0 : Nat) (a1 : Int32) (a2 : Int32) (h : zSt) : Option ((Nat × Nat) × (Option Nat × zSt)) := if ¬ a1 = 0 then zc1 (F_J13_copyOfRangeByte a0 a1 a2 h) (fun c_4 => zn2 (fun q_2 h_3 => zpay c_4 (zb1 q_2 (fun o_6 => some ((0, 0), ((some o_6), h_3)))))) else zka (hK h) a0 65 (fun n_8 => if a2 = (nI n_8) then none else zc1 (F_J13_copyOfRangeByte a0 a1 a2 h) (fun c_13 => zn2 (fun q_11 h_12 => zpay c_13 (zb1 q_11 (fun o_15 => some ((0, 0), ((some o_15), h_12)))))))
set_option maxHeartbeats 1000000 in
theorem C_J13_copyOfRange {l : Launch} {G : zGt} (htr : l.stackTraces = false) {a0 : Nat} {a1 : Int32} {a2 : Int32} {h : zSt} {cc : Nat × Nat} {r : Option Nat × zSt} (hF : F_J13_copyOfRange a0 a1 a2 h = some (cc, r)) : zMet l G yJ13_copyOfRange (ws_ yJ13_copyOfRange cJ13_copyOfRange 3 (some (.array .byte))) 2 84 (cc.1 + 0) (cc.2 + 0) [.ref a0, .int a1, .int a2] (hK h) (jF h) (hI h) (hL h) (zQe (.inl (some (zrf r.1))) (hK r.2) (jF r.2) (hI r.2) (hL r.2)) := by
  refine zMet.of (by decide +kernel) htr (Nat.le_of_ble_eq_true rfl) ?_
  change zW l G MJ13_copyOfRange 2 84 (cc.1 + 0) (cc.2 + 0) 0 [(0, .ref a0), (1, .int a1), (2, .int a2)] [] (hK h) (jF h) (hI h) (hL h) (zQe (.inl (some (zrf r.1))) (hK r.2) (jF r.2) (hI r.2) (hL r.2))
  unfold F_J13_copyOfRange at hF
  refine z_iload_n (n := 1) dJ13_copyOfRange_0 rfl 1 rfl rfl ?_
  refine z_if_ne (n := 4) (t := 10) dJ13_copyOfRange_1 rfl (by decide) (fun hc => ?_) (fun hc => ?_)
  · replace hF := (if_pos hc).symm.trans hF
    refine z_aload_n (n := 11) dJ13_copyOfRange_10 rfl 0 rfl rfl ?_
    refine z_iload_n (n := 12) dJ13_copyOfRange_11 rfl 1 rfl rfl ?_
    refine z_iload_n (n := 13) dJ13_copyOfRange_12 rfl 2 rfl rfl ?_
    obtain ⟨c_4, t_5, c_1, hF⟩ := zc1_some hF
    obtain ⟨q_2, h_3⟩ := t_5
    dsimp only [zn2] at hF
    obtain ⟨cc, hF, hcc⟩ := zpay_some hF
    refine z_payE hcc ?_
    refine z_cS (n := 16) (mc2 := (cc.1 + 0)) (ms2 := (cc.2 + 0)) (st := []) (C_J13_copyOfRangeByte htr c_1) dJ13_copyOfRange_13 rfl (lw_S q424 q425 q120 q426) hcee_J13_copyOfRangeByte rfl (by decide) rfl (Nat.le_of_ble_eq_true rfl) (Nat.le_of_eq (Nat.add_comm _ _)) (Nat.le_of_eq (Nat.add_comm _ _)) ?_
    obtain ⟨o_6, hr_7, hF⟩ := zb1_some hF
    rw [hr_7]
    obtain ⟨rfl, rfl⟩ := zpair hF
    exact z_aret (r := (some o_6)) dJ13_copyOfRange_16 rfl (Or.inr ⟨_, rfl⟩) ⟨rfl, rfl, rfl, rfl, rfl⟩
  · replace hF := (if_neg hc).symm.trans hF
    refine z_iload_n (n := 5) dJ13_copyOfRange_4 rfl 2 rfl rfl ?_
    refine z_aload_n (n := 6) dJ13_copyOfRange_5 rfl 0 rfl rfl ?_
    obtain ⟨n_8, hk_9, hF⟩ := zka_some hF
    refine z_alen (n := 7) 1 (by decide) dJ13_copyOfRange_6 rfl hk_9 ?_
    refine z_icmp_eq (n := 10) (t := 17) dJ13_copyOfRange_7 rfl (by decide) (fun hc => ?_) (fun hc => ?_)
    · replace hF := (if_pos hc).symm.trans hF
      refine z_aload_n (n := 18) dJ13_copyOfRange_17 rfl 0 rfl rfl ?_
      cases hF -- callee ('[B', 'clone', '()Ljava/lang/Object;')
    · replace hF := (if_neg hc).symm.trans hF
      refine z_aload_n (n := 11) dJ13_copyOfRange_10 rfl 0 rfl rfl ?_
      refine z_iload_n (n := 12) dJ13_copyOfRange_11 rfl 1 rfl rfl ?_
      refine z_iload_n (n := 13) dJ13_copyOfRange_12 rfl 2 rfl rfl ?_
      obtain ⟨c_13, t_14, c_10, hF⟩ := zc1_some hF
      obtain ⟨q_11, h_12⟩ := t_14
      dsimp only [zn2] at hF
      obtain ⟨cc, hF, hcc⟩ := zpay_some hF
      refine z_payE hcc ?_
      refine z_cS (n := 16) (mc2 := (cc.1 + 0)) (ms2 := (cc.2 + 0)) (st := []) (C_J13_copyOfRangeByte htr c_10) dJ13_copyOfRange_13 rfl (lw_S q424 q425 q120 q426) hcee_J13_copyOfRangeByte rfl (by decide) rfl (Nat.le_of_ble_eq_true rfl) (Nat.le_of_eq (Nat.add_comm _ _)) (Nat.le_of_eq (Nat.add_comm _ _)) ?_
      obtain ⟨o_15, hr_16, hF⟩ := zb1_some hF
      rw [hr_16]
      obtain ⟨rfl, rfl⟩ := zpair hF
      exact z_aret (r := (some o_15)) dJ13_copyOfRange_16 rfl (Or.inr ⟨_, rfl⟩) ⟨rfl, rfl, rfl, rfl, rfl⟩
theorem fJ9_9_15 : zFld RJ9 9 15 0 := ⟨_, rfl, by decide, _, Or.inl q475, Or.inl rfl⟩
theorem fJ9_15_15 : zFld RJ9 15 15 1 := ⟨_, rfl, by decide, _, Or.inl q476, Or.inl rfl⟩
theorem fJ9_1048_16 : zFld RJ9 1048 16 2 := ⟨_, rfl, by decide, _, Or.inl q236, Or.inl rfl⟩
theorem hcee_J13_copyOfRange : zCee yJ13_copyOfRange RJ13 3 := ⟨rfl, by decide +kernel, by decide +kernel, by decide +kernel⟩
theorem hcee_J7_getValue : zCee yJ7_getValue RJ7 0 := ⟨rfl, by decide +kernel, by decide +kernel, by decide +kernel⟩
theorem hcee_J7_isLatin1 : zCee yJ7_isLatin1 RJ7 0 := ⟨rfl, by decide +kernel, by decide +kernel, by decide +kernel⟩
theorem hcee_J8_length : zCee yJ8_length RJ8 0 := ⟨rfl, by decide +kernel, by decide +kernel, by decide +kernel⟩
abbrev MJ9_init_2 : zM := (RJ9, cJ9_init_2, 5, none, "<init>", [])
noncomputable def F_J9_init_2 (o0 : Nat) (a0 : Nat) (a1 : Option Nat) (h : zSt) : Option ((Nat × Nat) × (zSt)) := zka (hK h) a0 16 (fun n_1 => zb1 (F_J7_getValue (hK h) (jF h) a0 (hI h)) (fun q_4 => zb1 q_4 (fun o_5 => zb1 (F_J8_length (hK h) (jF h) a0 (hI h)) (fun x_8 => zb1 (F_J7_isLatin1 (hK h) (jF h) a0 (hI h)) (fun x_10 => if x_10 = 0 then if (1 : Int32) = 0 then zka (hK h) o0 15 (fun n_11 => zg (decide (600 ≤ o0)) (zlet (zsI h (zu (hI h) o0 1 1)) (fun h_14 => zc1 (F_J13_copyOfRange o_5 0 (x_8 <<< ((1 : Int32) &&& (31 : Int32))) h_14) (fun c_19 => zn2 (fun q_17 h_18 => zpay c_19 (zb1 q_17 (fun o_21 => zka (hK h_18) o0 15 (fun n_23 => zlet (zsF h_18 (zu (jF h_18) o0 0 (some o_21))) (fun h_25 => some ((0, 0), h_25)))))))))) else zg (decide (600 ≤ a0)) (if ((hI h) a0 2) = 0 then zka (hK h) o0 15 (fun n_28 => zg (decide (600 ≤ o0)) (zlet (zsI h (zu (hI h) o0 1 1)) (fun h_31 => zc1 (F_J13_copyOfRange o_5 0 (x_8 <<< ((1 : Int32) &&& (31 : Int32))) h_31) (fun c_36 => zn2 (fun q_34 h_35 => zpay c_36 (zb1 q_34 (fun o_38 => zka (hK h_35) o0 15 (fun n_40 => zlet (zsF h_35 (zu (jF h_35) o0 0 (some o_38))) (fun h_42 => some ((0, 0), h_42)))))))))) else none) else zka (hK h) o0 15 (fun n_44 => zg (decide (600 ≤ o0)) (zlet (zsI h (zu (hI h) o0 1 0)) (fun h_47 => zc1 (F_J13_copyOfRange o_5 0 x_8 h_47) (fun c_52 => zn2 (fun q_50 h_51 => zpay c_52 (zb1 q_50 (fun o_54 => zka (hK h_51) o0 15 (fun n_56 => zlet (zsF h_51 (zu (jF h_51) o0 0 (some o_54))) (fun h_58 => some ((0, 0), h_58)))))))))))))))
set_option maxHeartbeats 1000000 in
theorem C_J9_init_2 {l : Launch} {G : zGt} (htr : l.stackTraces = false) {o0 : Nat} {a0 : Nat} {a1 : Option Nat} {h : zSt} {cc : Nat × Nat} {r : zSt} (hF : F_J9_init_2 o0 a0 a1 h = some (cc, r)) : zMet l G yJ9_init_2 (ws_ yJ9_init_2 cJ9_init_2 5 none) 3 106 (cc.1 + 0) (cc.2 + 0) [.ref o0, .ref a0, zrf a1] (hK h) (jF h) (hI h) (hL h) (zQe (.inl none) (hK r) (jF r) (hI r) (hL r)) := by
  refine zMet.of (by decide +kernel) htr (by cases a1 <;> exact Nat.le_of_ble_eq_true rfl) ?_
  change zW l G MJ9_init_2 3 106 (cc.1 + 0) (cc.2 + 0) 0 [(0, .ref o0), (1, .ref a0), (2, zrf a1)] [] (hK h) (jF h) (hI h) (hL h) (zQe (.inl none) (hK r) (jF r) (hI r) (hL r))
  unfold F_J9_init_2 at hF
  refine z_aload_n (n := 1) dJ9_init_2_0 rfl 0 rfl rfl ?_
  refine z_objInit (n := 4) dJ9_init_2_1 rfl q406 q151 q152 (by decide) (Nat.le_of_ble_eq_true rfl) ?_
  refine z_aload_n (n := 5) dJ9_init_2_4 rfl 1 rfl rfl ?_
  obtain ⟨n_1, hk_2, hF⟩ := zka_some hF
  obtain ⟨q_4, c_3, hF⟩ := zb1_some hF
  refine z_cU (n := 8) (mc2 := (cc.1 + 0)) (ms2 := (cc.2 + 0)) (st := []) (x := yJ7_getValue) (C_J7_getValue htr c_3) dJ9_init_2_5 rfl q407 q409 q410 q408 q114 q411 q408 q411 ⟨hcee_J7_getValue.2.1, hcee_J7_getValue.2.2.1, hcee_J7_getValue.2.2.2⟩ rfl (by decide) hk_2 rfl rfl rfl (Nat.le_of_ble_eq_true rfl) (Nat.le_refl _) (Nat.le_refl _) ?_
  obtain ⟨o_5, hr_6, hF⟩ := zb1_some hF
  rw [hr_6]
  refine z_astore_nS (n := 9) (lv' := [(3, .ref o_5), (0, .ref o0), (1, .ref a0), (2, zrf a1)]) dJ9_init_2_8 rfl rfl (by decide) (by cases a1 <;> rfl) ?_
  refine z_aload_n (n := 10) dJ9_init_2_9 rfl 2 rfl rfl ?_
  obtain ⟨x_8, c_7, hF⟩ := zb1_some hF
  refine z_cU (n := 13) (mc2 := (cc.1 + 0)) (ms2 := (cc.2 + 0)) (st := []) (x := yJ7_length) (C_J8_length htr c_7) dJ9_init_2_10 rfl q412 q414 q415 q416 q115 q417 q413 q419 ⟨hcee_J7_length.2.1, hcee_J7_length.2.2.1, hcee_J7_length.2.2.2⟩ rfl (by decide) hk_2 rfl rfl rfl (Nat.le_of_ble_eq_true rfl) (Nat.le_refl _) (Nat.le_refl _) ?_
  refine z_istoreE (n := 15) (lv' := [(4, .int x_8), (3, .ref o_5), (0, .ref o0), (1, .ref a0), (2, zrf a1)]) dJ9_init_2_13 rfl rfl (by decide) rfl ?_
  refine z_aload_n (n := 16) dJ9_init_2_15 rfl 3 rfl rfl ?_
  obtain ⟨x_10, c_9, hF⟩ := zb1_some hF
  refine z_cU (n := 19) (mc2 := (cc.1 + 0)) (ms2 := (cc.2 + 0)) (st := []) (x := yJ7_isLatin1) (C_J7_isLatin1 htr c_9) dJ9_init_2_16 rfl q420 q297 q298 q296 q114 q299 q296 q299 ⟨hcee_J7_isLatin1.2.1, hcee_J7_isLatin1.2.2.1, hcee_J7_isLatin1.2.2.2⟩ rfl (by decide) hk_2 rfl rfl rfl (Nat.le_of_ble_eq_true rfl) (Nat.le_refl _) (Nat.le_refl _) ?_
  refine z_if_eq (n := 22) (t := 41) dJ9_init_2_19 rfl (by decide) (fun hc => ?_) (fun hc => ?_)
  · replace hF := (if_pos hc).symm.trans hF
    refine z_gets (n := 44) (v := .int 1) dJ9_init_2_41 rfl zst_String_COMPACT_STRINGS q334 (fun j h => by cases h) ?_
    refine z_if_eq (n := 47) (t := 79) dJ9_init_2_44 rfl (by decide) (fun hc => ?_) (fun hc => ?_)
    · replace hF := (if_pos hc).symm.trans hF
      refine z_aload_n (n := 80) dJ9_init_2_79 rfl 2 rfl rfl ?_
      refine z_iconst (n := 81) (v := 1) dJ9_init_2_80 rfl (by decide) ?_
      obtain ⟨n_11, hk_12, hF⟩ := zka_some hF
      obtain ⟨hb_13, hF⟩ := zg_some hF
      obtain ⟨h_14, e_15, hF⟩ := zlet_ob hF
      refine z_putIE (n := 84) dJ9_init_2_81 rfl zok15 fJ9_15_15 (Or.inr ⟨rfl, _, rfl, rfl, rfl⟩) rfl ⟨rfl, rfl⟩ hk_12 (zbig hb_13) rfl ?_
      refine z_toI e_15 ?_
      refine z_aload_n (n := 85) dJ9_init_2_84 rfl 2 rfl rfl ?_
      refine z_aload_n (n := 86) dJ9_init_2_85 rfl 1 rfl rfl ?_
      refine z_iconst (n := 87) (v := 0) dJ9_init_2_86 rfl (by decide) ?_
      refine z_iload (n := 89) dJ9_init_2_87 rfl 0 rfl ?_
      refine z_iconst (n := 90) (v := 1) dJ9_init_2_89 rfl (by decide) ?_
      refine z_ishl (n := 91) dJ9_init_2_90 rfl ?_
      obtain ⟨c_19, t_20, c_16, hF⟩ := zc1_some hF
      obtain ⟨q_17, h_18⟩ := t_20
      dsimp only [zn2] at hF
      obtain ⟨cc, hF, hcc⟩ := zpay_some hF
      refine z_payE hcc ?_
      refine z_cS (n := 94) (mc2 := (cc.1 + 0)) (ms2 := (cc.2 + 0)) (st := [.ref o0]) (C_J13_copyOfRange htr c_16) dJ9_init_2_91 rfl (lw_S q421 q422 q120 q423) hcee_J13_copyOfRange rfl (by decide) rfl (Nat.le_of_ble_eq_true rfl) (Nat.le_of_eq (Nat.add_comm _ _)) (Nat.le_of_eq (Nat.add_comm _ _)) ?_
      obtain ⟨o_21, hr_22, hF⟩ := zb1_some hF
      rw [hr_22]
      obtain ⟨n_23, hk_24, hF⟩ := zka_some hF
      obtain ⟨h_25, e_26, hF⟩ := zlet_ob hF
      refine z_putR (r := (some o_21)) (n := 97) dJ9_init_2_94 rfl zok15 fJ9_9_15 (Or.inr ⟨rfl, _, rfl, rfl, rfl⟩) rfl hk_24 (zbig hb_13) ?_
      refine z_toF e_26 ?_
      obtain ⟨rfl, rfl⟩ := zpair hF
      exact z_vret dJ9_init_2_97 rfl ⟨rfl, rfl, rfl, rfl, rfl⟩
    · replace hF := (if_neg hc).symm.trans hF
      refine z_aload_n (n := 48) dJ9_init_2_47 rfl 3 rfl rfl ?_
      obtain ⟨hb_27, hF⟩ := zg_some hF
      refine z_getI (n := 51) dJ9_init_2_48 rfl zok16 fJ9_1048_16 rfl hk_2 (Or.inl (zbig hb_27)) ?_
      refine z_if_eq (n := 54) (t := 79) dJ9_init_2_51 rfl (by decide) (fun hc => ?_) (fun hc => ?_)
      · replace hF := (if_pos hc).symm.trans hF
        refine z_aload_n (n := 80) dJ9_init_2_79 rfl 2 rfl rfl ?_
        refine z_iconst (n := 81) (v := 1) dJ9_init_2_80 rfl (by decide) ?_
        obtain ⟨n_28, hk_29, hF⟩ := zka_some hF
        obtain ⟨hb_30, hF⟩ := zg_some hF
        obtain ⟨h_31, e_32, hF⟩ := zlet_ob hF
        refine z_putIE (n := 84) dJ9_init_2_81 rfl zok15 fJ9_15_15 (Or.inr ⟨rfl, _, rfl, rfl, rfl⟩) rfl ⟨rfl, rfl⟩ hk_29 (zbig hb_30) rfl ?_
        refine z_toI e_32 ?_
        refine z_aload_n (n := 85) dJ9_init_2_84 rfl 2 rfl rfl ?_
        refine z_aload_n (n := 86) dJ9_init_2_85 rfl 1 rfl rfl ?_
        refine z_iconst (n := 87) (v := 0) dJ9_init_2_86 rfl (by decide) ?_
        refine z_iload (n := 89) dJ9_init_2_87 rfl 0 rfl ?_
        refine z_iconst (n := 90) (v := 1) dJ9_init_2_89 rfl (by decide) ?_
        refine z_ishl (n := 91) dJ9_init_2_90 rfl ?_
        obtain ⟨c_36, t_37, c_33, hF⟩ := zc1_some hF
        obtain ⟨q_34, h_35⟩ := t_37
        dsimp only [zn2] at hF
        obtain ⟨cc, hF, hcc⟩ := zpay_some hF
        refine z_payE hcc ?_
        refine z_cS (n := 94) (mc2 := (cc.1 + 0)) (ms2 := (cc.2 + 0)) (st := [.ref o0]) (C_J13_copyOfRange htr c_33) dJ9_init_2_91 rfl (lw_S q421 q422 q120 q423) hcee_J13_copyOfRange rfl (by decide) rfl (Nat.le_of_ble_eq_true rfl) (Nat.le_of_eq (Nat.add_comm _ _)) (Nat.le_of_eq (Nat.add_comm _ _)) ?_
        obtain ⟨o_38, hr_39, hF⟩ := zb1_some hF
        rw [hr_39]
        obtain ⟨n_40, hk_41, hF⟩ := zka_some hF
        obtain ⟨h_42, e_43, hF⟩ := zlet_ob hF
        refine z_putR (r := (some o_38)) (n := 97) dJ9_init_2_94 rfl zok15 fJ9_9_15 (Or.inr ⟨rfl, _, rfl, rfl, rfl⟩) rfl hk_41 (zbig hb_30) ?_
        refine z_toF e_43 ?_
        obtain ⟨rfl, rfl⟩ := zpair hF
        exact z_vret dJ9_init_2_97 rfl ⟨rfl, rfl, rfl, rfl, rfl⟩
      · replace hF := (if_neg hc).symm.trans hF
        refine z_aload_n (n := 55) dJ9_init_2_54 rfl 2 rfl rfl ?_
        refine z_aload_n (n := 56) dJ9_init_2_55 rfl 1 rfl rfl ?_
        refine z_iconst (n := 57) (v := 0) dJ9_init_2_56 rfl (by decide) ?_
        refine z_iload (n := 59) dJ9_init_2_57 rfl 0 rfl ?_
        cases hF -- callee J10_compress
  · replace hF := (if_neg hc).symm.trans hF
    refine z_aload_n (n := 23) dJ9_init_2_22 rfl 2 rfl rfl ?_
    refine z_iconst (n := 24) (v := 0) dJ9_init_2_23 rfl (by decide) ?_
    obtain ⟨n_44, hk_45, hF⟩ := zka_some hF
    obtain ⟨hb_46, hF⟩ := zg_some hF
    obtain ⟨h_47, e_48, hF⟩ := zlet_ob hF
    refine z_putIE (n := 27) dJ9_init_2_24 rfl zok15 fJ9_15_15 (Or.inr ⟨rfl, _, rfl, rfl, rfl⟩) rfl ⟨rfl, rfl⟩ hk_45 (zbig hb_46) rfl ?_
    refine z_toI e_48 ?_
    refine z_aload_n (n := 28) dJ9_init_2_27 rfl 2 rfl rfl ?_
    refine z_aload_n (n := 29) dJ9_init_2_28 rfl 1 rfl rfl ?_
    refine z_iconst (n := 30) (v := 0) dJ9_init_2_29 rfl (by decide) ?_
    refine z_iload (n := 32) dJ9_init_2_30 rfl 0 rfl ?_
    obtain ⟨c_52, t_53, c_49, hF⟩ := zc1_some hF
    obtain ⟨q_50, h_51⟩ := t_53
    dsimp only [zn2] at hF
    obtain ⟨cc, hF, hcc⟩ := zpay_some hF
    refine z_payE hcc ?_
    refine z_cS (n := 35) (mc2 := (cc.1 + 0)) (ms2 := (cc.2 + 0)) (st := [.ref o0]) (C_J13_copyOfRange htr c_49) dJ9_init_2_32 rfl (lw_S q421 q422 q120 q423) hcee_J13_copyOfRange rfl (by decide) rfl (Nat.le_of_ble_eq_true rfl) (Nat.le_of_eq (Nat.add_comm _ _)) (Nat.le_of_eq (Nat.add_comm _ _)) ?_
    obtain ⟨o_54, hr_55, hF⟩ := zb1_some hF
    rw [hr_55]
    obtain ⟨n_56, hk_57, hF⟩ := zka_some hF
    obtain ⟨h_58, e_59, hF⟩ := zlet_ob hF
    refine z_putR (r := (some o_54)) (n := 38) dJ9_init_2_35 rfl zok15 fJ9_9_15 (Or.inr ⟨rfl, _, rfl, rfl, rfl⟩) rfl hk_57 (zbig hb_46) ?_
    refine z_toF e_59 ?_
    refine z_goto (t := 97) dJ9_init_2_38 (by decide) ?_
    obtain ⟨rfl, rfl⟩ := zpair hF
    exact z_vret dJ9_init_2_97 rfl ⟨rfl, rfl, rfl, rfl, rfl⟩
theorem hcee_J9_init_2 : zCee yJ9_init_2 RJ9 2 := ⟨rfl, by decide +kernel, by decide +kernel, by decide +kernel⟩
abbrev MJ9_init : zM := (RJ9, cJ9_init, 2, none, "<init>", [])
noncomputable def F_J9_init (o0 : Nat) (a0 : Nat) (h : zSt) : Option ((Nat × Nat) × (zSt)) := zc1 (F_J9_init_2 o0 a0 none h) (fun c_3 h_2 => zpay c_3 (some ((0, 0), h_2)))
set_option maxHeartbeats 1000000 in
theorem C_J9_init {l : Launch} {G : zGt} (htr : l.stackTraces = false) {o0 : Nat} {a0 : Nat} {h : zSt} {cc : Nat × Nat} {r : zSt} (hF : F_J9_init o0 a0 h = some (cc, r)) : zMet l G yJ9_init (ws_ yJ9_init cJ9_init 2 none) 4 130 (cc.1 + 0) (cc.2 + 0) [.ref o0, .ref a0] (hK h) (jF h) (hI h) (hL h) (zQe (.inl none) (hK r) (jF r) (hI r) (hL r)) := by
  refine zMet.of (by decide +kernel) htr (Nat.le_of_ble_eq_true rfl) ?_
  change zW l G MJ9_init 4 130 (cc.1 + 0) (cc.2 + 0) 0 [(0, .ref o0), (1, .ref a0)] [] (hK h) (jF h) (hI h) (hL h) (zQe (.inl none) (hK r) (jF r) (hI r) (hL r))
  unfold F_J9_init at hF
  refine z_aload_n (n := 1) dJ9_init_0 rfl 0 rfl rfl ?_
  refine z_aload_n (n := 2) dJ9_init_1 rfl 1 rfl rfl ?_
  refine z_null (n := 3) dJ9_init_2 rfl ?_
  obtain ⟨c_3, h_2, c_1, hF⟩ := zc1_some hF
  obtain ⟨cc, hF, hcc⟩ := zpay_some hF
  refine z_payE hcc ?_
  refine z_cI (n := 6) (mc2 := (cc.1 + 0)) (ms2 := (cc.2 + 0)) (st := []) (C_J9_init_2 htr c_1) dJ9_init_3 rfl q405 q116 q403 q404 rfl hcee_J9_init_2 rfl (by decide) rfl (Nat.le_of_ble_eq_true rfl) (Nat.le_of_eq (Nat.add_comm _ _)) (Nat.le_of_eq (Nat.add_comm _ _)) ?_
  obtain ⟨rfl, rfl⟩ := zpair hF
  exact z_vret dJ9_init_6 rfl ⟨rfl, rfl, rfl, rfl, rfl⟩
theorem hcee_J9_init : zCee yJ9_init RJ9 1 := ⟨rfl, by decide +kernel, by decide +kernel, by decide +kernel⟩
abbrev MJ8_toString : zM := (RJ8, cJ8_toString, 1, (some (.object "java/lang/String")), "toString", [])
noncomputable def F_J8_toString (o0 : Nat) (h : zSt) : Option ((Nat × Nat) × (Option Nat × zSt)) := zpay (1, 4) (zg (zfree h) (zlet (hN h) (fun o_4 => zlet (znA h 15 0) (fun h_2 => zc1 (F_J9_init o_4 o0 h_2) (fun c_8 h_7 => zpay c_8 (some ((0, 0), ((some o_4), h_7))))))))
set_option maxHeartbeats 1000000 in
theorem C_J8_toString {l : Launch} {G : zGt} (htr : l.stackTraces = false) {o0 : Nat} {h : zSt} {cc : Nat × Nat} {r : Option Nat × zSt} (hF : F_J8_toString o0 h = some (cc, r)) : zMet l G yJ8_toString (ws_ yJ8_toString cJ8_toString 1 (some (.object "java/lang/String"))) 5 151 (cc.1 + 0) (cc.2 + 0) [.ref o0] (hK h) (jF h) (hI h) (hL h) (zQe (.inl (some (zrf r.1))) (hK r.2) (jF r.2) (hI r.2) (hL r.2)) := by
  refine zMet.of (by decide +kernel) htr (Nat.le_of_ble_eq_true rfl) ?_
  change zW l G MJ8_toString 5 151 (cc.1 + 0) (cc.2 + 0) 0 [(0, .ref o0)] [] (hK h) (jF h) (hI h) (hL h) (zQe (.inl (some (zrf r.1))) (hK r.2) (jF r.2) (hI r.2) (hL r.2))
  unfold F_J8_toString at hF
  obtain ⟨cc, hF, hcc⟩ := zpay_some hF
  refine z_payE hcc ?_
  obtain ⟨hn_1, hF⟩ := zg_some hF
  obtain ⟨o_4, e_5, hF⟩ := zlet_ob hF
  obtain ⟨h_2, e_3, hF⟩ := zlet_ob hF
  refine z_newT (n := 3) dJ8_toString_0 rfl zok15 ⟨_, rfl, rfl, q399⟩ q398 q116 hn_1 e_5 e_3 rfl ?_
  refine z_dup (n := 4) dJ8_toString_3 rfl rfl ?_
  refine z_aload_n (n := 5) dJ8_toString_4 rfl 0 rfl rfl ?_
  obtain ⟨c_8, h_7, c_6, hF⟩ := zc1_some hF
  obtain ⟨cc, hF, hcc⟩ := zpay_some hF
  refine z_payE hcc ?_
  refine z_cI (n := 8) (mc2 := (cc.1 + 0)) (ms2 := (cc.2 + 0)) (st := [.ref o_4]) (C_J9_init htr c_6) dJ8_toString_5 rfl q402 q116 q400 q401 rfl hcee_J9_init rfl (by decide) rfl (Nat.le_of_ble_eq_true rfl) (Nat.le_of_eq (Nat.add_comm _ _)) (Nat.le_of_eq (Nat.add_comm _ _)) ?_
  obtain ⟨rfl, rfl⟩ := zpair hF
  exact z_aret (r := (some o_4)) dJ8_toString_8 rfl (Or.inl ⟨_, rfl⟩) ⟨rfl, rfl, rfl, rfl, rfl⟩
theorem hcee_J1_init : zCee yJ1_init RJ1 0 := ⟨rfl, by decide +kernel, by decide +kernel, by decide +kernel⟩
abbrev MJ2_init : zM := (RJ2, cJ2_init, 2, none, "<init>", [])
noncomputable def F_J2_init (o0 : Nat) (a0 : Int32) (h : zSt) : Option ((Nat × Nat) × (zSt)) := zc1 (F_J1_init o0 h) (fun c_3 h_2 => zpay c_3 (if a0 ≤ 0 then if ¬ a0 = 0 then none else none else zg (zarrn a0) (zpay (1, a0.toNatClampNeg) (zg (zfree h_2) (zlet (hN h_2) (fun o_8 => zlet (znA h_2 68 a0.toNatClampNeg) (fun h_6 => zka (hK h_6) o0 2 (fun n_10 => zg (decide (600 ≤ o0)) (zlet (zsF h_6 (zu (jF h_6) o0 1 (some o_8))) (fun h_13 => some ((0, 0), h_13)))))))))))
set_option maxHeartbeats 1000000 in
theorem C_J2_init {l : Launch} {G : zGt} (htr : l.stackTraces = false) {o0 : Nat} {a0 : Int32} {h : zSt} {cc : Nat × Nat} {r : zSt} (hF : F_J2_init o0 a0 h = some (cc, r)) : zMet l G yJ2_init (ws_ yJ2_init cJ2_init 2 none) 3 64 (cc.1 + 0) (cc.2 + 0) [.ref o0, .int a0] (hK h) (jF h) (hI h) (hL h) (zQe (.inl none) (hK r) (jF r) (hI r) (hL r)) := by
  refine zMet.of (by decide +kernel) htr (Nat.le_of_ble_eq_true rfl) ?_
  change zW l G MJ2_init 3 64 (cc.1 + 0) (cc.2 + 0) 0 [(0, .ref o0), (1, .int a0)] [] (hK h) (jF h) (hI h) (hL h) (zQe (.inl none) (hK r) (jF r) (hI r) (hL r))
  unfold F_J2_init at hF
  refine z_aload_n (n := 1) dJ2_init_0 rfl 0 rfl rfl ?_
  obtain ⟨c_3, h_2, c_1, hF⟩ := zc1_some hF
  obtain ⟨cc, hF, hcc⟩ := zpay_some hF
  refine z_payE hcc ?_
  refine z_cI (n := 4) (mc2 := (cc.1 + 0)) (ms2 := (cc.2 + 0)) (st := []) (C_J1_init htr c_1) dJ2_init_1 rfl q166 q108 q164 q165 rfl hcee_J1_init rfl (by decide) rfl (Nat.le_of_ble_eq_true rfl) (Nat.le_of_eq (Nat.add_comm _ _)) (Nat.le_of_eq (Nat.add_comm _ _)) ?_
  refine z_iload_n (n := 5) dJ2_init_4 rfl 1 rfl rfl ?_
  refine z_if_le (n := 8) (t := 19) dJ2_init_5 rfl (by decide) (fun hc => ?_) (fun hc => ?_)
  · replace hF := (if_pos hc).symm.trans hF
    refine z_iload_n (n := 20) dJ2_init_19 rfl 1 rfl rfl ?_
    refine z_if_ne (n := 23) (t := 33) dJ2_init_20 rfl (by decide) (fun hc => ?_) (fun hc => ?_)
    · replace hF := (if_pos hc).symm.trans hF
      cases hF -- new java/lang/IllegalArgumentException
    · replace hF := (if_neg hc).symm.trans hF
      refine z_aload_n (n := 24) dJ2_init_23 rfl 0 rfl rfl ?_
      cases hF -- getstatic java/util/ArrayList.EMPTY_ELEMENTDATA
  · replace hF := (if_neg hc).symm.trans hF
    refine z_aload_n (n := 9) dJ2_init_8 rfl 0 rfl rfl ?_
    refine z_iload_n (n := 10) dJ2_init_9 rfl 1 rfl rfl ?_
    obtain ⟨h_4, hF⟩ := zg_some hF
    obtain ⟨cc, hF, hcc⟩ := zpay_some hF
    refine z_payE hcc ?_
    obtain ⟨hn_5, hF⟩ := zg_some hF
    obtain ⟨o_8, e_9, hF⟩ := zlet_ob hF
    obtain ⟨h_6, e_7, hF⟩ := zlet_ob hF
    refine z_anewT (t := 4) (n := 13) dJ2_init_10 rfl (Or.inl ⟨rfl, rfl⟩) q171 h_4 rfl hn_5 e_9 e_7 ?_
    obtain ⟨n_10, hk_11, hF⟩ := zka_some hF
    obtain ⟨hb_12, hF⟩ := zg_some hF
    obtain ⟨h_13, e_14, hF⟩ := zlet_ob hF
    refine z_putR (r := (some o_8)) (n := 16) dJ2_init_13 rfl zok2 fJ2_9_2 (Or.inl ⟨_, rfl, rfl⟩) rfl hk_11 (zbig hb_12) ?_
    refine z_toF e_14 ?_
    refine z_goto (t := 60) dJ2_init_16 (by decide) ?_
    obtain ⟨rfl, rfl⟩ := zpair hF
    exact z_vret dJ2_init_60 rfl ⟨rfl, rfl, rfl, rfl, rfl⟩
abbrev MJ13_copyOf_3 : zM := (RJ13, cJ13_copyOf_3, 4, (some (.array (.object "java/lang/Object"))), "copyOf", [])
noncomputable def F_J13_copyOf_3 (a0 : Nat) (a1 : Int32) (a2 : Nat) (h : zSt) : Option ((Nat × Nat) × (Option Nat × zSt)) := zg ((hK h) 21).isSome (zg (zcmpok (some a2) (some 21)) (if ¬ (some a2) = (some 21) then none else zg (zarrn a1) (zpay (1, a1.toNatClampNeg) (zg (zfree h) (zlet (hN h) (fun o_7 => zlet (znA h 68 a1.toNatClampNeg) (fun h_5 => zka (hK h_5) a0 68 (fun n_9 => zka (hK h_5) o_7 68 (fun n_11 => zg (decide (600 ≤ a0)) (zg (decide (600 ≤ o_7)) (zg (zcpok 0 0 (zmin (nI n_9) a1) n_9 n_11) (zg (zcpfq (hK h_5) (jF h_5) a0 0 ((zmin (nI n_9) a1).toNatClampNeg)) (zlet (zsF h_5 (zcpyF (jF h_5) a0 0 o_7 0 ((zmin (nI n_9) a1).toNatClampNeg))) (fun h_17 => some ((0, 0), ((some o_7), h_17))))))))))))))))
set_option maxHeartbeats 1000000 in
theorem C_J13_copyOf_3 {l : Launch} {G : zGt} (htr : l.stackTraces = false) {a0 : Nat} {a1 : Int32} {a2 : Nat} {h : zSt} {cc : Nat × Nat} {r : Option Nat × zSt} (hF : F_J13_copyOf_3 a0 a1 a2 h = some (cc, r)) : zMet l G yJ13_copyOf_3 (ws_ yJ13_copyOf_3 cJ13_copyOf_3 4 (some (.array (.object "java/lang/Object")))) 1 60 (cc.1 + 0) (cc.2 + 0) [.ref a0, .int a1, .ref a2] (hK h) (jF h) (hI h) (hL h) (zQe (.inl (some (zrf r.1))) (hK r.2) (jF r.2) (hI r.2) (hL r.2)) := by
  refine zMet.of (by decide +kernel) htr (Nat.le_of_ble_eq_true rfl) ?_
  change zW l G MJ13_copyOf_3 1 60 (cc.1 + 0) (cc.2 + 0) 0 [(0, .ref a0), (1, .int a1), (2, .ref a2)] [] (hK h) (jF h) (hI h) (hL h) (zQe (.inl (some (zrf r.1))) (hK r.2) (jF r.2) (hI r.2) (hL r.2))
  unfold F_J13_copyOf_3 at hF
  refine z_aload_n (n := 1) dJ13_copyOf_3_0 rfl 2 rfl rfl ?_
  obtain ⟨hk_1, hF⟩ := zg_some hF
  refine z_ldcM (n := 3) dJ13_copyOf_3_1 rfl q695 (zsome hk_1) ?_
  obtain ⟨hz_2, hF⟩ := zg_some hF
  refine z_acmp_ne (r1 := (some a2)) (r2 := (some 21)) (n := 6) (t := 13) dJ13_copyOf_3_3 rfl (by decide) (zcmpok_ok hz_2) (fun hc => ?_) (fun hc => ?_)
  · replace hF := (if_pos hc).symm.trans hF
    refine z_aload_n (n := 14) dJ13_copyOf_3_13 rfl 2 rfl rfl ?_
    cases hF -- no link
  · replace hF := (if_neg (not_not_intro hc)).symm.trans hF
    refine z_iload_n (n := 7) dJ13_copyOf_3_6 rfl 1 rfl rfl ?_
    obtain ⟨h_3, hF⟩ := zg_some hF
    obtain ⟨cc, hF, hcc⟩ := zpay_some hF
    refine z_payE hcc ?_
    obtain ⟨hn_4, hF⟩ := zg_some hF
    obtain ⟨o_7, e_8, hF⟩ := zlet_ob hF
    obtain ⟨h_5, e_6, hF⟩ := zlet_ob hF
    refine z_anewT (t := 4) (n := 10) dJ13_copyOf_3_7 rfl (Or.inl ⟨rfl, rfl⟩) q696 h_3 rfl hn_4 e_8 e_6 ?_
    refine z_goto (t := 24) dJ13_copyOf_3_10 (by decide) ?_
    refine z_astore_nS (n := 25) (lv' := [(3, .ref o_7), (0, .ref a0), (1, .int a1), (2, .ref a2)]) dJ13_copyOf_3_24 rfl rfl (by decide) rfl ?_
    refine z_aload_n (n := 26) dJ13_copyOf_3_25 rfl 1 rfl rfl ?_
    refine z_iconst (n := 27) (v := 0) dJ13_copyOf_3_26 rfl (by decide) ?_
    refine z_aload_n (n := 28) dJ13_copyOf_3_27 rfl 0 rfl rfl ?_
    refine z_iconst (n := 29) (v := 0) dJ13_copyOf_3_28 rfl (by decide) ?_
    refine z_aload_n (n := 30) dJ13_copyOf_3_29 rfl 1 rfl rfl ?_
    obtain ⟨n_9, hk_10, hF⟩ := zka_some hF
    refine z_alen (n := 31) 4 (by decide) dJ13_copyOf_3_30 rfl hk_10 ?_
    refine z_iload_n (n := 32) dJ13_copyOf_3_31 rfl 2 rfl rfl ?_
    refine z_min (n := 35) dJ13_copyOf_3_32 rfl q289 q290 q119 q291 (by decide) (Nat.le_of_ble_eq_true rfl) ?_
    obtain ⟨n_11, hk_12, hF⟩ := zka_some hF
    obtain ⟨hb_13, hF⟩ := zg_some hF
    obtain ⟨hb_14, hF⟩ := zg_some hF
    obtain ⟨h_15, hF⟩ := zg_some hF
    obtain ⟨h_16, hF⟩ := zg_some hF
    obtain ⟨h_17, e_18, hF⟩ := zlet_ob hF
    refine z_copyq (sk := 0) (dk := 0) (nk := ((zmin (nI n_9) a1).toNatClampNeg)) (n := 38) dJ13_copyOf_3_35 rfl q292 q294 q293 q121 hk_10 hk_12 (zbig hb_13) (zbig hb_14) h_15 h_16 (by decide) (by decide) rfl rfl (by decide) (Nat.le_of_ble_eq_true rfl) ?_
    refine z_toF e_18 ?_
    refine z_aload_n (n := 39) dJ13_copyOf_3_38 rfl 0 rfl rfl ?_
    obtain ⟨rfl, rfl⟩ := zpair hF
    exact z_aret (r := (some o_7)) dJ13_copyOf_3_39 rfl (Or.inr ⟨_, rfl⟩) ⟨rfl, rfl, rfl, rfl, rfl⟩
theorem hcee_J13_copyOf_3 : zCee yJ13_copyOf_3 RJ13 3 := ⟨rfl, by decide +kernel, by decide +kernel, by decide +kernel⟩
abbrev MJ13_copyOf_2 : zM := (RJ13, cJ13_copyOf_2, 2, (some (.array (.object "java/lang/Object"))), "copyOf", [])
noncomputable def F_J13_copyOf_2 (a0 : Nat) (a1 : Int32) (h : zSt) : Option ((Nat × Nat) × (Option Nat × zSt)) := zka (hK h) a0 68 (fun n_1 => zg (decide (600 ≤ a0)) (zg ((hK h) 21).isSome (zc1 (F_J13_copyOf_3 a0 a1 21 h) (fun c_8 => zn2 (fun q_6 h_7 => zpay c_8 (zb1 q_6 (fun o_10 => some ((0, 0), ((some o_10), h_7)))))))))
set_option maxHeartbeats 1000000 in
theorem C_J13_copyOf_2 {l : Launch} {G : zGt} (htr : l.stackTraces = false) {a0 : Nat} {a1 : Int32} {h : zSt} {cc : Nat × Nat} {r : Option Nat × zSt} (hF : F_J13_copyOf_2 a0 a1 h = some (cc, r)) : zMet l G yJ13_copyOf_2 (ws_ yJ13_copyOf_2 cJ13_copyOf_2 2 (some (.array (.object "java/lang/Object")))) 2 83 (cc.1 + 0) (cc.2 + 0) [.ref a0, .int a1] (hK h) (jF h) (hI h) (hL h) (zQe (.inl (some (zrf r.1))) (hK r.2) (jF r.2) (hI r.2) (hL r.2)) := by
  refine zMet.of (by decide +kernel) htr (Nat.le_of_ble_eq_true rfl) ?_
  change zW l G MJ13_copyOf_2 2 83 (cc.1 + 0) (cc.2 + 0) 0 [(0, .ref a0), (1, .int a1)] [] (hK h) (jF h) (hI h) (hL h) (zQe (.inl (some (zrf r.1))) (hK r.2) (jF r.2) (hI r.2) (hL r.2))
  unfold F_J13_copyOf_2 at hF
  refine z_aload_n (n := 1) dJ13_copyOf_2_0 rfl 0 rfl rfl ?_
  refine z_iload_n (n := 2) dJ13_copyOf_2_1 rfl 1 rfl rfl ?_
  refine z_aload_n (n := 3) dJ13_copyOf_2_2 rfl 0 rfl rfl ?_
  obtain ⟨n_1, hk_2, hF⟩ := zka_some hF
  obtain ⟨hb_3, hF⟩ := zg_some hF
  obtain ⟨hk_4, hF⟩ := zg_some hF
  refine z_getC (n := 6) dJ13_copyOf_2_3 rfl q666 q2328 q2327 q667 q691 hk_2 (zbig hb_3) (zsome hk_4) (by decide) (Nat.le_of_ble_eq_true rfl) ?_
  obtain ⟨c_8, t_9, c_5, hF⟩ := zc1_some hF
  obtain ⟨q_6, h_7⟩ := t_9
  dsimp only [zn2] at hF
  obtain ⟨cc, hF, hcc⟩ := zpay_some hF
  refine z_payE hcc ?_
  refine z_cS (n := 9) (mc2 := (cc.1 + 0)) (ms2 := (cc.2 + 0)) (st := []) (C_J13_copyOf_3 htr c_5) dJ13_copyOf_2_6 rfl (lw_S q692 q693 q120 q694) hcee_J13_copyOf_3 rfl (by decide) rfl (Nat.le_of_ble_eq_true rfl) (Nat.le_of_eq (Nat.add_comm _ _)) (Nat.le_of_eq (Nat.add_comm _ _)) ?_
  obtain ⟨o_10, hr_11, hF⟩ := zb1_some hF
  rw [hr_11]
  obtain ⟨rfl, rfl⟩ := zpair hF
  exact z_aret (r := (some o_10)) dJ13_copyOf_2_9 rfl (Or.inr ⟨_, rfl⟩) ⟨rfl, rfl, rfl, rfl, rfl⟩
abbrev MJ11_newLength : zM := (RJ11, cJ11_newLength, 4, (some .int), "newLength", [])
noncomputable def F_J11_newLength (K : zKd) (F : zFd) (a0 : Int32) (a1 : Int32) (a2 : Int32) (I : zId) : Option (Int32) := zlet (a0 + (zmax a1 a2)) (fun v3_1 => if v3_1 ≤ (0 : Int32) then none else if 2147483639 < v3_1 then none else some v3_1)
set_option maxHeartbeats 1000000 in
theorem C_J11_newLength {l : Launch} {G : zGt} (htr : l.stackTraces = false) {K : zKd} {F : zFd} {L : zLd} {a0 : Int32} {a1 : Int32} {a2 : Int32} {I : zId} {r : Int32} (hF : F_J11_newLength K F a0 a1 a2 I = some r) : zMet l G yJ11_newLength (ws_ yJ11_newLength cJ11_newLength 4 (some .int)) 1 24 0 0 [.int a0, .int a1, .int a2] K F I L (zQe (.inl (some (.int r))) K F I L) := by
  refine zMet.of (by decide +kernel) htr (Nat.le_of_ble_eq_true rfl) ?_
  change zW l G MJ11_newLength 1 24 0 0 0 [(0, .int a0), (1, .int a1), (2, .int a2)] [] K F I L (zQe (.inl (some (.int r))) K F I L)
  unfold F_J11_newLength at hF
  refine z_iload_n (n := 1) dJ11_newLength_0 rfl 0 rfl rfl ?_
  refine z_iload_n (n := 2) dJ11_newLength_1 rfl 1 rfl rfl ?_
  refine z_iload_n (n := 3) dJ11_newLength_2 rfl 2 rfl rfl ?_
  refine z_max (n := 6) dJ11_newLength_3 rfl q271 q272 q119 q273 (by decide) (Nat.le_of_ble_eq_true rfl) ?_
  refine z_iadd (n := 7) dJ11_newLength_6 rfl ?_
  obtain ⟨v3_1, e_2, hF⟩ := zlet_ob hF
  refine z_istore_nE (n := 8) (lv' := [(3, .int v3_1), (0, .int a0), (1, .int a1), (2, .int a2)]) dJ11_newLength_7 rfl e_2 rfl (by decide) rfl ?_
  refine z_iconst (n := 9) (v := 0) dJ11_newLength_8 rfl (by decide) ?_
  refine z_iload_n (n := 10) dJ11_newLength_9 rfl 0 rfl rfl ?_
  refine z_icmp_ge (n := 13) (t := 21) dJ11_newLength_10 rfl (by decide) (fun hc => ?_) (fun hc => ?_)
  · replace hF := (if_pos hc).symm.trans hF
    refine z_iload_n (n := 22) dJ11_newLength_21 rfl 1 rfl rfl ?_
    refine z_iload_n (n := 23) dJ11_newLength_22 rfl 2 rfl rfl ?_
    cases hF -- callee J11_hugeLength
  · replace hF := (if_neg hc).symm.trans hF
    refine z_iload_n (n := 14) dJ11_newLength_13 rfl 0 rfl rfl ?_
    refine z_ldc (n := 16) dJ11_newLength_14 rfl q274 ?_
    refine z_icmp_gt (n := 19) (t := 21) dJ11_newLength_16 rfl (by decide) (fun hc => ?_) (fun hc => ?_)
    · replace hF := (if_pos hc).symm.trans hF
      refine z_iload_n (n := 22) dJ11_newLength_21 rfl 1 rfl rfl ?_
      refine z_iload_n (n := 23) dJ11_newLength_22 rfl 2 rfl rfl ?_
      cases hF -- callee J11_hugeLength
    · replace hF := (if_neg hc).symm.trans hF
      refine z_iload_n (n := 20) dJ11_newLength_19 rfl 0 rfl rfl ?_
      have hF := Option.some.inj hF; subst hF
      exact z_iret dJ11_newLength_20 rfl rfl ⟨rfl, rfl, rfl, rfl, rfl⟩
theorem hcee_J11_newLength : zCee yJ11_newLength RJ11 3 := ⟨rfl, by decide +kernel, by decide +kernel, by decide +kernel⟩
theorem hcee_J13_copyOf_2 : zCee yJ13_copyOf_2 RJ13 2 := ⟨rfl, by decide +kernel, by decide +kernel, by decide +kernel⟩
abbrev MJ2_grow_2 : zM := (RJ2, cJ2_grow_2, 4, (some (.array (.object "java/lang/Object"))), "grow", [])
noncomputable def F_J2_grow_2 (o0 : Nat) (a0 : Int32) (h : zSt) : Option ((Nat × Nat) × (Option Nat × zSt)) := zka (hK h) o0 2 (fun n_1 => zg (decide (600 ≤ o0)) (zb1 ((jF h) o0 1) (fun o_4 => zka (hK h) o_4 68 (fun n_6 => zlet (nI n_6) (fun v2_8 => if 0 < v2_8 then zb1 (F_J11_newLength (hK h) (jF h) v2_8 (a0 - v2_8) (v2_8 >>> ((1 : Int32) &&& (31 : Int32))) (hI h)) (fun x_11 => zb1 ((jF h) o0 1) (fun o_12 => zc1 (F_J13_copyOf_2 o_12 x_11 h) (fun c_17 => zn2 (fun q_15 h_16 => zpay c_17 (zb1 q_15 (fun o_19 => zka (hK h_16) o0 2 (fun n_21 => zlet (zsF h_16 (zu (jF h_16) o0 1 (some o_19))) (fun h_23 => some ((0, 0), ((some o_19), h_23)))))))))) else zb1 ((jF h) o0 1) (fun o_25 => none))))))
set_option maxHeartbeats 1000000 in
theorem C_J2_grow_2 {l : Launch} {G : zGt} (htr : l.stackTraces = false) {o0 : Nat} {a0 : Int32} {h : zSt} {cc : Nat × Nat} {r : Option Nat × zSt} (hF : F_J2_grow_2 o0 a0 h = some (cc, r)) : zMet l G yJ2_grow_2 (ws_ yJ2_grow_2 cJ2_grow_2 4 (some (.array (.object "java/lang/Object")))) 3 104 (cc.1 + 0) (cc.2 + 0) [.ref o0, .int a0] (hK h) (jF h) (hI h) (hL h) (zQe (.inl (some (zrf r.1))) (hK r.2) (jF r.2) (hI r.2) (hL r.2)) := by
  refine zMet.of (by decide +kernel) htr (Nat.le_of_ble_eq_true rfl) ?_
  change zW l G MJ2_grow_2 3 104 (cc.1 + 0) (cc.2 + 0) 0 [(0, .ref o0), (1, .int a0)] [] (hK h) (jF h) (hI h) (hL h) (zQe (.inl (some (zrf r.1))) (hK r.2) (jF r.2) (hI r.2) (hL r.2))
  unfold F_J2_grow_2 at hF
  refine z_aload_n (n := 1) dJ2_grow_2_0 rfl 0 rfl rfl ?_
  obtain ⟨n_1, hk_2, hF⟩ := zka_some hF
  obtain ⟨hb_3, hF⟩ := zg_some hF
  obtain ⟨o_4, hr_5, hF⟩ := zb1_some hF
  refine z_getRS (n := 4) dJ2_grow_2_1 rfl zok2 fJ2_9_2 rfl hk_2 (Or.inl (zbig hb_3)) hr_5 ?_
  obtain ⟨n_6, hk_7, hF⟩ := zka_some hF
  refine z_alen (n := 5) 4 (by decide) dJ2_grow_2_4 rfl hk_7 ?_
  obtain ⟨v2_8, e_9, hF⟩ := zlet_ob hF
  refine z_istore_nE (n := 6) (lv' := [(2, .int v2_8), (0, .ref o0), (1, .int a0)]) dJ2_grow_2_5 rfl e_9 rfl (by decide) rfl ?_
  refine z_iload_n (n := 7) dJ2_grow_2_6 rfl 0 rfl rfl ?_
  refine z_if_gt (n := 10) (t := 20) dJ2_grow_2_7 rfl (by decide) (fun hc => ?_) (fun hc => ?_)
  · replace hF := (if_pos hc).symm.trans hF
    refine z_iload_n (n := 21) dJ2_grow_2_20 rfl 0 rfl rfl ?_
    refine z_iload_n (n := 22) dJ2_grow_2_21 rfl 2 rfl rfl ?_
    refine z_iload_n (n := 23) dJ2_grow_2_22 rfl 0 rfl rfl ?_
    refine z_isub (n := 24) dJ2_grow_2_23 rfl ?_
    refine z_iload_n (n := 25) dJ2_grow_2_24 rfl 0 rfl rfl ?_
    refine z_iconst (n := 26) (v := 1) dJ2_grow_2_25 rfl (by decide) ?_
    refine z_ishr (n := 27) dJ2_grow_2_26 rfl ?_
    obtain ⟨x_11, c_10, hF⟩ := zb1_some hF
    refine z_cS (n := 30) (mc2 := (cc.1 + 0)) (ms2 := (cc.2 + 0)) (st := []) (C_J11_newLength htr c_10) dJ2_grow_2_27 rfl (lw_S q662 q269 q118 q270) hcee_J11_newLength rfl (by decide) rfl (Nat.le_of_ble_eq_true rfl) (Nat.le_refl _) (Nat.le_refl _) ?_
    refine z_istore_nE (n := 31) (lv' := [(3, .int x_11), (2, .int v2_8), (0, .ref o0), (1, .int a0)]) dJ2_grow_2_30 rfl rfl rfl (by decide) rfl ?_
    refine z_aload_n (n := 32) dJ2_grow_2_31 rfl 2 rfl rfl ?_
    refine z_aload_n (n := 33) dJ2_grow_2_32 rfl 2 rfl rfl ?_
    obtain ⟨o_12, hr_13, hF⟩ := zb1_some hF
    refine z_getRS (n := 36) dJ2_grow_2_33 rfl zok2 fJ2_9_2 rfl hk_2 (Or.inl (zbig hb_3)) hr_13 ?_
    refine z_iload_n (n := 37) dJ2_grow_2_36 rfl 0 rfl rfl ?_
    obtain ⟨c_17, t_18, c_14, hF⟩ := zc1_some hF
    obtain ⟨q_15, h_16⟩ := t_18
    dsimp only [zn2] at hF
    obtain ⟨cc, hF, hcc⟩ := zpay_some hF
    refine z_payE hcc ?_
    refine z_cS (n := 40) (mc2 := (cc.1 + 0)) (ms2 := (cc.2 + 0)) (st := [.ref o0]) (C_J13_copyOf_2 htr c_14) dJ2_grow_2_37 rfl (lw_S q663 q664 q120 q665) hcee_J13_copyOf_2 rfl (by decide) rfl (Nat.le_of_ble_eq_true rfl) (Nat.le_of_eq (Nat.add_comm _ _)) (Nat.le_of_eq (Nat.add_comm _ _)) ?_
    obtain ⟨o_19, hr_20, hF⟩ := zb1_some hF
    rw [hr_20]
    refine z_dup_x1 (n := 41) dJ2_grow_2_40 rfl rfl rfl ?_
    obtain ⟨n_21, hk_22, hF⟩ := zka_some hF
    obtain ⟨h_23, e_24, hF⟩ := zlet_ob hF
    refine z_putR (r := (some o_19)) (n := 44) dJ2_grow_2_41 rfl zok2 fJ2_9_2 (Or.inl ⟨_, rfl, rfl⟩) rfl hk_22 (zbig hb_3) ?_
    refine z_toF e_24 ?_
    obtain ⟨rfl, rfl⟩ := zpair hF
    exact z_aret (r := (some o_19)) dJ2_grow_2_44 rfl (Or.inr ⟨_, rfl⟩) ⟨rfl, rfl, rfl, rfl, rfl⟩
  · replace hF := (if_neg hc).symm.trans hF
    refine z_aload_n (n := 11) dJ2_grow_2_10 rfl 1 rfl rfl ?_
    obtain ⟨o_25, hr_26, hF⟩ := zb1_some hF
    refine z_getRS (n := 14) dJ2_grow_2_11 rfl zok2 fJ2_9_2 rfl hk_2 (Or.inl (zbig hb_3)) hr_26 ?_
    cases hF -- getstatic java/util/ArrayList.DEFAULTCAPACITY_EMPTY_ELEMENTDATA
theorem hcee_J2_grow_2 : zCee yJ2_grow_2 RJ2 1 := ⟨rfl, by decide +kernel, by decide +kernel, by decide +kernel⟩
abbrev MJ2_grow : zM := (RJ2, cJ2_grow, 1, (some (.array (.object "java/lang/Object"))), "grow", [])
noncomputable def F_J2_grow (o0 : Nat) (h : zSt) : Option ((Nat × Nat) × (Option Nat × zSt)) := zka (hK h) o0 2 (fun n_1 => zg (decide (600 ≤ o0)) (zc1 (F_J2_grow_2 o0 (((hI h) o0 2) + 1) h) (fun c_7 => zn2 (fun q_5 h_6 => zpay c_7 (zb1 q_5 (fun o_9 => some ((0, 0), ((some o_9), h_6))))))))
set_option maxHeartbeats 1000000 in
theorem C_J2_grow {l : Launch} {G : zGt} (htr : l.stackTraces = false) {o0 : Nat} {h : zSt} {cc : Nat × Nat} {r : Option Nat × zSt} (hF : F_J2_grow o0 h = some (cc, r)) : zMet l G yJ2_grow (ws_ yJ2_grow cJ2_grow 1 (some (.array (.object "java/lang/Object")))) 4 127 (cc.1 + 0) (cc.2 + 0) [.ref o0] (hK h) (jF h) (hI h) (hL h) (zQe (.inl (some (zrf r.1))) (hK r.2) (jF r.2) (hI r.2) (hL r.2)) := by
  refine zMet.of (by decide +kernel) htr (Nat.le_of_ble_eq_true rfl) ?_
  change zW l G MJ2_grow 4 127 (cc.1 + 0) (cc.2 + 0) 0 [(0, .ref o0)] [] (hK h) (jF h) (hI h) (hL h) (zQe (.inl (some (zrf r.1))) (hK r.2) (jF r.2) (hI r.2) (hL r.2))
  unfold F_J2_grow at hF
  refine z_aload_n (n := 1) dJ2_grow_0 rfl 0 rfl rfl ?_
  refine z_aload_n (n := 2) dJ2_grow_1 rfl 0 rfl rfl ?_
  obtain ⟨n_1, hk_2, hF⟩ := zka_some hF
  obtain ⟨hb_3, hF⟩ := zg_some hF
  refine z_getI (n := 5) dJ2_grow_2 rfl zok2 fJ2_48_2 rfl hk_2 (Or.inl (zbig hb_3)) ?_
  refine z_iconst (n := 6) (v := 1) dJ2_grow_5 rfl (by decide) ?_
  refine z_iadd (n := 7) dJ2_grow_6 rfl ?_
  obtain ⟨c_7, t_8, c_4, hF⟩ := zc1_some hF
  obtain ⟨q_5, h_6⟩ := t_8
  dsimp only [zn2] at hF
  obtain ⟨cc, hF, hcc⟩ := zpay_some hF
  refine z_payE hcc ?_
  refine z_cV (n := 10) (mc2 := (cc.1 + 0)) (ms2 := (cc.2 + 0)) (st := []) (C_J2_grow_2 htr c_4) dJ2_grow_7 rfl (lw_V q656 q658 qs3 q109 q659) hcee_J2_grow_2 rfl (by decide) hk_2 rfl rfl rfl (Nat.le_of_ble_eq_true rfl) (Nat.le_of_eq (Nat.add_comm _ _)) (Nat.le_of_eq (Nat.add_comm _ _)) ?_
  obtain ⟨o_9, hr_10, hF⟩ := zb1_some hF
  rw [hr_10]
  obtain ⟨rfl, rfl⟩ := zpair hF
  exact z_aret (r := (some o_9)) dJ2_grow_10 rfl (Or.inr ⟨_, rfl⟩) ⟨rfl, rfl, rfl, rfl, rfl⟩
theorem hcee_J2_grow : zCee yJ2_grow RJ2 0 := ⟨rfl, by decide +kernel, by decide +kernel, by decide +kernel⟩
abbrev MJ2_add_2 : zM := (RJ2, cJ2_add_2, 4, none, "add", [])
noncomputable def F_J2_add_2 (o0 : Nat) (a0 : Nat) (a1 : Nat) (a2 : Int32) (h : zSt) : Option ((Nat × Nat) × (zSt)) := zka (hK h) a1 68 (fun n_1 => zlet (fun (o_3 : Nat) (h_4 : zSt) => zka (hK h_4) o_3 68 (fun n_8 => zg (zin a2 n_8) (zg (decide (600 ≤ o_3)) (zkl (hK h_4) a0 (fun c_12 => zlet (zsF h_4 (zu (jF h_4) o_3 a2.toNatClampNeg (some a0))) (fun h_14 => zka (hK h_14) o0 2 (fun n_16 => zg (decide (600 ≤ o0)) (zlet (zsI h_14 (zu (hI h_14) o0 2 (a2 + 1))) (fun h_19 => some ((0, 0), h_19)))))))))) (fun k_5 => if ¬ a2 = (nI n_1) then k_5 a1 h else zka (hK h) o0 2 (fun n_21 => zc1 (F_J2_grow o0 h) (fun c_26 => zn2 (fun q_24 h_25 => zpay c_26 (zb1 q_24 (fun o_28 => k_5 o_28 h_25)))))))
set_option maxHeartbeats 1000000 in
theorem C_J2_add_2 {l : Launch} {G : zGt} (htr : l.stackTraces = false) {o0 : Nat} {a0 : Nat} {a1 : Nat} {a2 : Int32} {h : zSt} {cc : Nat × Nat} {r : zSt} (hF : F_J2_add_2 o0 a0 a1 a2 h = some (cc, r)) : zMet l G yJ2_add_2 (ws_ yJ2_add_2 cJ2_add_2 4 none) 5 147 (cc.1 + 0) (cc.2 + 0) [.ref o0, .ref a0, .ref a1, .int a2] (hK h) (jF h) (hI h) (hL h) (zQe (.inl none) (hK r) (jF r) (hI r) (hL r)) := by
  refine zMet.of (by decide +kernel) htr (Nat.le_of_ble_eq_true rfl) ?_
  change zW l G MJ2_add_2 5 147 (cc.1 + 0) (cc.2 + 0) 0 [(0, .ref o0), (1, .ref a0), (2, .ref a1), (3, .int a2)] [] (hK h) (jF h) (hI h) (hL h) (zQe (.inl none) (hK r) (jF r) (hI r) (hL r))
  unfold F_J2_add_2 at hF
  refine z_iload_n (n := 1) dJ2_add_2_0 rfl 3 rfl rfl ?_
  refine z_aload_n (n := 2) dJ2_add_2_1 rfl 2 rfl rfl ?_
  obtain ⟨n_1, hk_2, hF⟩ := zka_some hF
  refine z_alen (n := 3) 4 (by decide) dJ2_add_2_2 rfl hk_2 ?_
  obtain ⟨k_5, e_6, hF⟩ := zlet_ob hF
  have H_7 : ∀ (o_3 : Nat) (h_4 : zSt) (cc : Nat × Nat), k_5 o_3 h_4 = some (cc, r) → zW l G MJ2_add_2 5 147 (cc.1 + 0) (cc.2 + 0) 11 [(0, .ref o0), (1, .ref a0), (2, .ref o_3), (3, .int a2)] [] (hK h_4) (jF h_4) (hI h_4) (hL h_4) (zQe (.inl none) (hK r) (jF r) (hI r) (hL r)) := by
    intro o_3 h_4 cc hF
    subst e_6
    dsimp only at hF
    refine z_aload_n (n := 12) dJ2_add_2_11 rfl 2 rfl rfl ?_
    refine z_iload_n (n := 13) dJ2_add_2_12 rfl 3 rfl rfl ?_
    refine z_aload_n (n := 14) dJ2_add_2_13 rfl 1 rfl rfl ?_
    obtain ⟨n_8, hk_9, hF⟩ := zka_some hF
    obtain ⟨h_10, hF⟩ := zg_some hF
    obtain ⟨hb_11, hF⟩ := zg_some hF
    obtain ⟨c_12, hk_13, hF⟩ := zkl_some hF
    obtain ⟨h_14, e_15, hF⟩ := zlet_ob hF
    refine z_aastO (n := 15) a2.toNatClampNeg rfl dJ2_add_2_14 rfl hk_9 (zbig hb_11) hk_13 (zin_ok h_10) ?_
    refine z_toF e_15 ?_
    refine z_aload_n (n := 16) dJ2_add_2_15 rfl 0 rfl rfl ?_
    refine z_iload_n (n := 17) dJ2_add_2_16 rfl 3 rfl rfl ?_
    refine z_iconst (n := 18) (v := 1) dJ2_add_2_17 rfl (by decide) ?_
    refine z_iadd (n := 19) dJ2_add_2_18 rfl ?_
    obtain ⟨n_16, hk_17, hF⟩ := zka_some hF
    obtain ⟨hb_18, hF⟩ := zg_some hF
    obtain ⟨h_19, e_20, hF⟩ := zlet_ob hF
    refine z_putIE (n := 22) dJ2_add_2_19 rfl zok2 fJ2_48_2 (Or.inl ⟨_, rfl, rfl⟩) rfl ⟨rfl, rfl⟩ hk_17 (zbig hb_18) rfl ?_
    refine z_toI e_20 ?_
    obtain ⟨rfl, rfl⟩ := zpair hF
    exact z_vret dJ2_add_2_22 rfl ⟨rfl, rfl, rfl, rfl, rfl⟩
  clear e_6
  refine z_icmp_ne (n := 6) (t := 11) dJ2_add_2_3 rfl (by decide) (fun hc => ?_) (fun hc => ?_)
  · replace hF := (if_pos hc).symm.trans hF
    exact H_7 a1 h _ hF
  · replace hF := (if_neg hc).symm.trans hF
    refine z_aload_n (n := 7) dJ2_add_2_6 rfl 0 rfl rfl ?_
    obtain ⟨n_21, hk_22, hF⟩ := zka_some hF
    obtain ⟨c_26, t_27, c_23, hF⟩ := zc1_some hF
    obtain ⟨q_24, h_25⟩ := t_27
    dsimp only [zn2] at hF
    obtain ⟨cc, hF, hcc⟩ := zpay_some hF
    refine z_payE hcc ?_
    refine z_cV (n := 10) (mc2 := (cc.1 + 0)) (ms2 := (cc.2 + 0)) (st := []) (C_J2_grow htr c_23) dJ2_add_2_7 rfl (lw_V q652 q654 qs2 q109 q655) hcee_J2_grow rfl (by decide) hk_22 rfl rfl rfl (Nat.le_of_ble_eq_true rfl) (Nat.le_of_eq (Nat.add_comm _ _)) (Nat.le_of_eq (Nat.add_comm _ _)) ?_
    obtain ⟨o_28, hr_29, hF⟩ := zb1_some hF
    rw [hr_29]
    refine z_astore_nS (n := 11) (lv' := [(2, .ref o_28), (0, .ref o0), (1, .ref a0), (3, .int a2)]) dJ2_add_2_10 rfl rfl (by decide) rfl ?_
    refine z_sub [1, 2, 0, 3] rfl ?_
    exact H_7 o_28 h_25 _ hF
theorem fJ2_63_2 : zFld RJ2 63 2 0 := ⟨_, rfl, by decide, _, Or.inl q490, Or.inr q491⟩
theorem hcee_J2_add_2 : zCee yJ2_add_2 RJ2 3 := ⟨rfl, by decide +kernel, by decide +kernel, by decide +kernel⟩
abbrev MJ2_add : zM := (RJ2, cJ2_add, 2, (some .boolean), "add", [])
noncomputable def F_J2_add (o0 : Nat) (a0 : Nat) (h : zSt) : Option ((Nat × Nat) × (Int32 × zSt)) := zka (hK h) o0 2 (fun n_1 => zg (decide (600 ≤ o0)) (zlet (zsI h (zu (hI h) o0 0 (((hI h) o0 0) + 1))) (fun h_4 => zka (hK h_4) o0 2 (fun n_6 => zb1 ((jF h_4) o0 1) (fun o_8 => zc1 (F_J2_add_2 o0 a0 o_8 ((hI h_4) o0 2) h_4) (fun c_12 h_11 => zpay c_12 (some ((0, 0), (1, h_11)))))))))
set_option maxHeartbeats 1000000 in
theorem C_J2_add {l : Launch} {G : zGt} (htr : l.stackTraces = false) {o0 : Nat} {a0 : Nat} {h : zSt} {cc : Nat × Nat} {r : Int32 × zSt} (hF : F_J2_add o0 a0 h = some (cc, r)) : zMet l G yJ2_add (ws_ yJ2_add cJ2_add 2 (some .boolean)) 6 170 (cc.1 + 0) (cc.2 + 0) [.ref o0, .ref a0] (hK h) (jF h) (hI h) (hL h) (zQe (.inl (some (.int r.1))) (hK r.2) (jF r.2) (hI r.2) (hL r.2)) := by
  refine zMet.of (by decide +kernel) htr (Nat.le_of_ble_eq_true rfl) ?_
  change zW l G MJ2_add 6 170 (cc.1 + 0) (cc.2 + 0) 0 [(0, .ref o0), (1, .ref a0)] [] (hK h) (jF h) (hI h) (hL h) (zQe (.inl (some (.int r.1))) (hK r.2) (jF r.2) (hI r.2) (hL r.2))
  unfold F_J2_add at hF
  refine z_aload_n (n := 1) dJ2_add_0 rfl 0 rfl rfl ?_
  refine z_dup (n := 2) dJ2_add_1 rfl rfl ?_
  obtain ⟨n_1, hk_2, hF⟩ := zka_some hF
  obtain ⟨hb_3, hF⟩ := zg_some hF
  refine z_getI (n := 5) dJ2_add_2 rfl zok2 fJ2_63_2 rfl hk_2 (Or.inl (zbig hb_3)) ?_
  refine z_iconst (n := 6) (v := 1) dJ2_add_5 rfl (by decide) ?_
  refine z_iadd (n := 7) dJ2_add_6 rfl ?_
  obtain ⟨h_4, e_5, hF⟩ := zlet_ob hF
  refine z_putIE (n := 10) dJ2_add_7 rfl zok2 fJ2_63_2 (Or.inl ⟨_, rfl, rfl⟩) rfl ⟨rfl, rfl⟩ hk_2 (zbig hb_3) rfl ?_
  refine z_toI e_5 ?_
  refine z_aload_n (n := 11) dJ2_add_10 rfl 0 rfl rfl ?_
  refine z_aload_n (n := 12) dJ2_add_11 rfl 1 rfl rfl ?_
  refine z_aload_n (n := 13) dJ2_add_12 rfl 0 rfl rfl ?_
  obtain ⟨n_6, hk_7, hF⟩ := zka_some hF
  obtain ⟨o_8, hr_9, hF⟩ := zb1_some hF
  refine z_getRS (n := 16) dJ2_add_13 rfl zok2 fJ2_9_2 rfl hk_7 (Or.inl (zbig hb_3)) hr_9 ?_
  refine z_aload_n (n := 17) dJ2_add_16 rfl 0 rfl rfl ?_
  refine z_getI (n := 20) dJ2_add_17 rfl zok2 fJ2_48_2 rfl hk_7 (Or.inl (zbig hb_3)) ?_
  obtain ⟨c_12, h_11, c_10, hF⟩ := zc1_some hF
  obtain ⟨cc, hF, hcc⟩ := zpay_some hF
  refine z_payE hcc ?_
  refine z_cV (n := 23) (mc2 := (cc.1 + 0)) (ms2 := (cc.2 + 0)) (st := []) (C_J2_add_2 htr c_10) dJ2_add_20 rfl (lw_V q648 q650 qs1 q109 q651) hcee_J2_add_2 rfl (by decide) hk_7 rfl rfl rfl (Nat.le_of_ble_eq_true rfl) (Nat.le_of_eq (Nat.add_comm _ _)) (Nat.le_of_eq (Nat.add_comm _ _)) ?_
  refine z_iconst (n := 24) (v := 1) dJ2_add_23 rfl (by decide) ?_
  obtain ⟨rfl, rfl⟩ := zpair hF
  exact z_iret dJ2_add_24 rfl rfl ⟨rfl, rfl, rfl, rfl, rfl⟩
abbrev MJ2_fastRemove : zM := (RJ2, cJ2_fastRemove, 4, none, "fastRemove", [])
noncomputable def F_J2_fastRemove (K : zKd) (F : zFd) (o0 : Nat) (a0 : Nat) (a1 : Int32) (I : zId) : Option (zFd × zId) := zka K o0 2 (fun n_1 => zg (decide (600 ≤ o0)) (zlet (zu I o0 0 ((I o0 0) + 1)) (fun I_4 => zlet ((I_4 o0 2) - 1) (fun v3_6 => zlet (fun (F_8 : zFd) => zlet (zu I_4 o0 2 v3_6) (fun I_12 => zka K a0 68 (fun n_14 => zg (zin v3_6 n_14) (zg (decide (600 ≤ a0)) (zlet (zu F_8 a0 v3_6.toNatClampNeg none) (fun F_18 => some (F_18, I_12))))))) (fun k_9 => if ((I_4 o0 2) - 1) ≤ a1 then k_9 F else zka K a0 68 (fun n_20 => zg (decide (600 ≤ a0)) (zg (zcpok (a1 + 1) a1 (v3_6 - a1) n_20 n_20) (zg (zcpfq K F a0 ((a1 + 1).toNatClampNeg) ((v3_6 - a1).toNatClampNeg)) (zlet (zcpyF F a0 ((a1 + 1).toNatClampNeg) a0 a1.toNatClampNeg ((v3_6 - a1).toNatClampNeg)) (fun F_25 => k_9 F_25))))))))))
set_option maxHeartbeats 1000000 in
theorem C_J2_fastRemove {l : Launch} {G : zGt} (htr : l.stackTraces = false) {K : zKd} {F : zFd} {L : zLd} {o0 : Nat} {a0 : Nat} {a1 : Int32} {I : zId} {r : zFd × zId} (hF : F_J2_fastRemove K F o0 a0 a1 I = some r) : zMet l G yJ2_fastRemove (ws_ yJ2_fastRemove cJ2_fastRemove 4 none) 1 60 0 0 [.ref o0, .ref a0, .int a1] K F I L (zQe (.inl none) K r.1 r.2 L) := by
  refine zMet.of (by decide +kernel) htr (Nat.le_of_ble_eq_true rfl) ?_
  change zW l G MJ2_fastRemove 1 60 0 0 0 [(0, .ref o0), (1, .ref a0), (2, .int a1)] [] K F I L (zQe (.inl none) K r.1 r.2 L)
  unfold F_J2_fastRemove at hF
  refine z_aload_n (n := 1) dJ2_fastRemove_0 rfl 0 rfl rfl ?_
  refine z_dup (n := 2) dJ2_fastRemove_1 rfl rfl ?_
  obtain ⟨n_1, hk_2, hF⟩ := zka_some hF
  obtain ⟨hb_3, hF⟩ := zg_some hF
  refine z_getI (n := 5) dJ2_fastRemove_2 rfl zok2 fJ2_63_2 rfl hk_2 (Or.inl (zbig hb_3)) ?_
  refine z_iconst (n := 6) (v := 1) dJ2_fastRemove_5 rfl (by decide) ?_
  refine z_iadd (n := 7) dJ2_fastRemove_6 rfl ?_
  obtain ⟨I_4, e_5, hF⟩ := zlet_ob hF
  refine z_putIE (n := 10) dJ2_fastRemove_7 rfl zok2 fJ2_63_2 (Or.inl ⟨_, rfl, rfl⟩) rfl ⟨rfl, rfl⟩ hk_2 (zbig hb_3) e_5 ?_
  refine z_aload_n (n := 11) dJ2_fastRemove_10 rfl 0 rfl rfl ?_
  refine z_getI (n := 14) dJ2_fastRemove_11 rfl zok2 fJ2_48_2 rfl hk_2 (Or.inl (zbig hb_3)) ?_
  refine z_iconst (n := 15) (v := 1) dJ2_fastRemove_14 rfl (by decide) ?_
  refine z_isub (n := 16) dJ2_fastRemove_15 rfl ?_
  refine z_dup (n := 17) dJ2_fastRemove_16 rfl rfl ?_
  obtain ⟨v3_6, e_7, hF⟩ := zlet_ob hF
  refine z_istore_nE (n := 18) (lv' := [(3, .int v3_6), (0, .ref o0), (1, .ref a0), (2, .int a1)]) dJ2_fastRemove_17 rfl e_7 rfl (by decide) rfl ?_
  refine z_iload_n (n := 19) dJ2_fastRemove_18 rfl 3 rfl rfl ?_
  obtain ⟨k_9, e_10, hF⟩ := zlet_ob hF
  have H_11 : ∀ (F_8 : zFd), k_9 F_8 = some r → zW l G MJ2_fastRemove 1 60 0 0 34 [(0, .ref o0), (1, .ref a0), (3, .int v3_6)] [] K F_8 I_4 L (zQe (.inl none) K r.1 r.2 L) := by
    intro F_8 hF
    subst e_10
    dsimp only at hF
    refine z_aload_n (n := 35) dJ2_fastRemove_34 rfl 1 rfl rfl ?_
    refine z_aload_n (n := 36) dJ2_fastRemove_35 rfl 0 rfl rfl ?_
    refine z_iload_n (n := 37) dJ2_fastRemove_36 rfl 2 rfl rfl ?_
    refine z_dup_x1 (n := 38) dJ2_fastRemove_37 rfl rfl rfl ?_
    obtain ⟨I_12, e_13, hF⟩ := zlet_ob hF
    refine z_putIE (n := 41) dJ2_fastRemove_38 rfl zok2 fJ2_48_2 (Or.inl ⟨_, rfl, rfl⟩) rfl ⟨rfl, rfl⟩ hk_2 (zbig hb_3) e_13 ?_
    refine z_null (n := 42) dJ2_fastRemove_41 rfl ?_
    obtain ⟨n_14, hk_15, hF⟩ := zka_some hF
    obtain ⟨h_16, hF⟩ := zg_some hF
    obtain ⟨hb_17, hF⟩ := zg_some hF
    obtain ⟨F_18, e_19, hF⟩ := zlet_ob hF
    refine z_aastNK (n := 43) v3_6.toNatClampNeg rfl dJ2_fastRemove_42 rfl (Or.inl ⟨rfl, rfl⟩) hk_15 (zbig hb_17) (zin_ok h_16) ?_
    rw [← e_19]
    have hF := Option.some.inj hF; subst hF
    exact z_vret dJ2_fastRemove_43 rfl ⟨rfl, rfl, rfl, rfl, rfl⟩
  clear e_10
  refine z_icmp_le (n := 22) (t := 34) dJ2_fastRemove_19 rfl (by decide) (fun hc => ?_) (fun hc => ?_)
  · replace hF := (if_pos hc).symm.trans hF
    refine z_sub [1, 2, 0] rfl ?_
    exact H_11 F hF
  · replace hF := (if_neg hc).symm.trans hF
    refine z_aload_n (n := 23) dJ2_fastRemove_22 rfl 2 rfl rfl ?_
    refine z_iload_n (n := 24) dJ2_fastRemove_23 rfl 3 rfl rfl ?_
    refine z_iconst (n := 25) (v := 1) dJ2_fastRemove_24 rfl (by decide) ?_
    refine z_iadd (n := 26) dJ2_fastRemove_25 rfl ?_
    refine z_aload_n (n := 27) dJ2_fastRemove_26 rfl 2 rfl rfl ?_
    refine z_iload_n (n := 28) dJ2_fastRemove_27 rfl 3 rfl rfl ?_
    refine z_iload_n (n := 29) dJ2_fastRemove_28 rfl 0 rfl rfl ?_
    refine z_iload_n (n := 30) dJ2_fastRemove_29 rfl 3 rfl rfl ?_
    refine z_isub (n := 31) dJ2_fastRemove_30 rfl ?_
    obtain ⟨n_20, hk_21, hF⟩ := zka_some hF
    obtain ⟨hb_22, hF⟩ := zg_some hF
    obtain ⟨h_23, hF⟩ := zg_some hF
    obtain ⟨h_24, hF⟩ := zg_some hF
    obtain ⟨F_25, e_26, hF⟩ := zlet_ob hF
    refine z_copyq (sk := ((a1 + 1).toNatClampNeg)) (dk := a1.toNatClampNeg) (nk := ((v3_6 - a1).toNatClampNeg)) (n := 34) dJ2_fastRemove_31 rfl q811 q294 q293 q121 hk_21 hk_21 (zbig hb_22) (zbig hb_22) h_23 h_24 rfl rfl rfl rfl (by decide) (Nat.le_of_ble_eq_true rfl) ?_
    rw [← e_26]
    refine z_sub [1, 2, 0] rfl ?_
    exact H_11 F_25 hF
theorem hcee_J2_fastRemove : zCee yJ2_fastRemove RJ2 2 := ⟨rfl, by decide +kernel, by decide +kernel, by decide +kernel⟩
abbrev MJ2_remove : zM := (RJ2, cJ2_remove, 4, (some (.object "java/lang/Object")), "remove", [])
noncomputable def F_J2_remove (K : zKd) (F : zFd) (o0 : Nat) (a0 : Int32) (I : zId) : Option (Option Nat × zFd × zId) := zka K o0 2 (fun n_1 => zg (decide (600 ≤ o0)) (zb1 (F_J19_checkIndex K F a0 (I o0 2) I) (fun x_5 => zb1 (F o0 1) (fun o_6 => zka K o_6 68 (fun n_8 => zg (zin a0 n_8) (zb1 (F o_6 a0.toNatClampNeg) (fun o_11 => zb2 (F_J2_fastRemove K F o0 o_6 a0 I) (fun F_14 I_15 => some ((some o_11), F_14, I_15)))))))))
set_option maxHeartbeats 1000000 in
theorem C_J2_remove {l : Launch} {G : zGt} (htr : l.stackTraces = false) {K : zKd} {F : zFd} {L : zLd} {o0 : Nat} {a0 : Int32} {I : zId} {r : Option Nat × zFd × zId} (hF : F_J2_remove K F o0 a0 I = some r) : zMet l G yJ2_remove (ws_ yJ2_remove cJ2_remove 4 (some (.object "java/lang/Object"))) 2 83 0 0 [.ref o0, .int a0] K F I L (zQe (.inl (some (zrf r.1))) K r.2.1 r.2.2 L) := by
  refine zMet.of (by decide +kernel) htr (Nat.le_of_ble_eq_true rfl) ?_
  change zW l G MJ2_remove 2 83 0 0 0 [(0, .ref o0), (1, .int a0)] [] K F I L (zQe (.inl (some (zrf r.1))) K r.2.1 r.2.2 L)
  unfold F_J2_remove at hF
  refine z_iload_n (n := 1) dJ2_remove_0 rfl 1 rfl rfl ?_
  refine z_aload_n (n := 2) dJ2_remove_1 rfl 0 rfl rfl ?_
  obtain ⟨n_1, hk_2, hF⟩ := zka_some hF
  obtain ⟨hb_3, hF⟩ := zg_some hF
  refine z_getI (n := 5) dJ2_remove_2 rfl zok2 fJ2_48_2 rfl hk_2 (Or.inl (zbig hb_3)) ?_
  obtain ⟨x_5, c_4, hF⟩ := zb1_some hF
  refine z_cS (n := 8) (st := []) (C_J19_checkIndex htr c_4) dJ2_remove_5 rfl (lw_S q801 q802 q137 q803) hcee_J19_checkIndex rfl (by decide) rfl (Nat.le_of_ble_eq_true rfl) (Nat.le_refl _) (Nat.le_refl _) ?_
  refine z_pop (n := 9) dJ2_remove_8 rfl rfl ?_
  refine z_aload_n (n := 10) dJ2_remove_9 rfl 0 rfl rfl ?_
  obtain ⟨o_6, hr_7, hF⟩ := zb1_some hF
  refine z_getRS (n := 13) dJ2_remove_10 rfl zok2 fJ2_9_2 rfl hk_2 (Or.inl (zbig hb_3)) hr_7 ?_
  refine z_astore_nS (n := 14) (lv' := [(2, .ref o_6), (0, .ref o0), (1, .int a0)]) dJ2_remove_13 rfl rfl (by decide) rfl ?_
  refine z_aload_n (n := 15) dJ2_remove_14 rfl 0 rfl rfl ?_
  refine z_iload_n (n := 16) dJ2_remove_15 rfl 2 rfl rfl ?_
  obtain ⟨n_8, hk_9, hF⟩ := zka_some hF
  obtain ⟨h_10, hF⟩ := zg_some hF
  obtain ⟨o_11, hr_12, hF⟩ := zb1_some hF
  refine z_aald4S (n := 17) a0.toNatClampNeg rfl dJ2_remove_16 rfl hk_9 (zin_ok h_10) hr_12 ?_
  refine z_astore_nS (n := 18) (lv' := [(3, .ref o_11), (2, .ref o_6), (0, .ref o0), (1, .int a0)]) dJ2_remove_17 rfl rfl (by decide) rfl ?_
  refine z_aload_n (n := 19) dJ2_remove_18 rfl 2 rfl rfl ?_
  refine z_aload_n (n := 20) dJ2_remove_19 rfl 1 rfl rfl ?_
  refine z_iload_n (n := 21) dJ2_remove_20 rfl 3 rfl rfl ?_
  obtain ⟨F_14, I_15, c_13, hF⟩ := zb2_some hF
  refine z_cV (n := 24) (st := []) (C_J2_fastRemove htr c_13) dJ2_remove_21 rfl (lw_V q807 q809 qs6 q109 q810) hcee_J2_fastRemove rfl (by decide) hk_2 rfl rfl rfl (Nat.le_of_ble_eq_true rfl) (Nat.le_refl _) (Nat.le_refl _) ?_
  refine z_aload_n (n := 25) dJ2_remove_24 rfl 0 rfl rfl ?_
  have hF := Option.some.inj hF; subst hF
  exact z_aret (r := (some o_11)) dJ2_remove_25 rfl (Or.inl ⟨_, rfl⟩) ⟨rfl, rfl, rfl, rfl, rfl⟩
abbrev MJ16_init : zM := (RJ16, cJ16_init, 1, none, "<init>", [])
noncomputable def F_J16_init (o0 : Nat) (h : zSt) : Option ((Nat × Nat) × (zSt)) := some ((0, 0), h)
set_option maxHeartbeats 1000000 in
theorem C_J16_init {l : Launch} {G : zGt} (htr : l.stackTraces = false) {o0 : Nat} {h : zSt} {cc : Nat × Nat} {r : zSt} (hF : F_J16_init o0 h = some (cc, r)) : zMet l G yJ16_init (ws_ yJ16_init cJ16_init 1 none) 1 24 (cc.1 + 0) (cc.2 + 0) [.ref o0] (hK h) (jF h) (hI h) (hL h) (zQe (.inl none) (hK r) (jF r) (hI r) (hL r)) := by
  refine zMet.of (by decide +kernel) htr (Nat.le_of_ble_eq_true rfl) ?_
  change zW l G MJ16_init 1 24 (cc.1 + 0) (cc.2 + 0) 0 [(0, .ref o0)] [] (hK h) (jF h) (hI h) (hL h) (zQe (.inl none) (hK r) (jF r) (hI r) (hL r))
  unfold F_J16_init at hF
  refine z_aload_n (n := 1) dJ16_init_0 rfl 0 rfl rfl ?_
  refine z_objInit (n := 4) dJ16_init_1 rfl q1208 q151 q152 (by decide) (Nat.le_of_ble_eq_true rfl) ?_
  obtain ⟨rfl, rfl⟩ := zpair hF
  exact z_vret dJ16_init_4 rfl ⟨rfl, rfl, rfl, rfl, rfl⟩
theorem hcee_J16_init : zCee yJ16_init RJ16 0 := ⟨rfl, by decide +kernel, by decide +kernel, by decide +kernel⟩
abbrev MJ17_init : zM := (RJ17, cJ17_init, 2, none, "<init>", [])
noncomputable def F_J17_init (o0 : Nat) (a0 : Int32) (h : zSt) : Option ((Nat × Nat) × (zSt)) := zc1 (F_J16_init o0 h) (fun c_3 h_2 => zpay c_3 (zka (hK h_2) o0 17 (fun n_4 => zg (decide (600 ≤ o0)) (zlet (zsI h_2 (zu (hI h_2) o0 0 a0)) (fun h_7 => some ((0, 0), h_7))))))
set_option maxHeartbeats 1000000 in
theorem C_J17_init {l : Launch} {G : zGt} (htr : l.stackTraces = false) {o0 : Nat} {a0 : Int32} {h : zSt} {cc : Nat × Nat} {r : zSt} (hF : F_J17_init o0 a0 h = some (cc, r)) : zMet l G yJ17_init (ws_ yJ17_init cJ17_init 2 none) 2 44 (cc.1 + 0) (cc.2 + 0) [.ref o0, .int a0] (hK h) (jF h) (hI h) (hL h) (zQe (.inl none) (hK r) (jF r) (hI r) (hL r)) := by
  refine zMet.of (by decide +kernel) htr (Nat.le_of_ble_eq_true rfl) ?_
  change zW l G MJ17_init 2 44 (cc.1 + 0) (cc.2 + 0) 0 [(0, .ref o0), (1, .int a0)] [] (hK h) (jF h) (hI h) (hL h) (zQe (.inl none) (hK r) (jF r) (hI r) (hL r))
  unfold F_J17_init at hF
  refine z_aload_n (n := 1) dJ17_init_0 rfl 0 rfl rfl ?_
  obtain ⟨c_3, h_2, c_1, hF⟩ := zc1_some hF
  obtain ⟨cc, hF, hcc⟩ := zpay_some hF
  refine z_payE hcc ?_
  refine z_cI (n := 4) (mc2 := (cc.1 + 0)) (ms2 := (cc.2 + 0)) (st := []) (C_J16_init htr c_1) dJ17_init_1 rfl q1207 q124 q1205 q1206 rfl hcee_J16_init rfl (by decide) rfl (Nat.le_of_ble_eq_true rfl) (Nat.le_of_eq (Nat.add_comm _ _)) (Nat.le_of_eq (Nat.add_comm _ _)) ?_
  refine z_aload_n (n := 5) dJ17_init_4 rfl 0 rfl rfl ?_
  refine z_iload_n (n := 6) dJ17_init_5 rfl 1 rfl rfl ?_
  obtain ⟨n_4, hk_5, hF⟩ := zka_some hF
  obtain ⟨hb_6, hF⟩ := zg_some hF
  obtain ⟨h_7, e_8, hF⟩ := zlet_ob hF
  refine z_putIE (n := 9) dJ17_init_6 rfl zok17 fJ17_205_17 (Or.inr ⟨rfl, _, rfl, rfl, rfl⟩) rfl ⟨rfl, rfl⟩ hk_5 (zbig hb_6) rfl ?_
  refine z_toI e_8 ?_
  obtain ⟨rfl, rfl⟩ := zpair hF
  exact z_vret dJ17_init_9 rfl ⟨rfl, rfl, rfl, rfl, rfl⟩
theorem hcee_J17_init : zCee yJ17_init RJ17 1 := ⟨rfl, by decide +kernel, by decide +kernel, by decide +kernel⟩
abbrev MJ17_valueOf : zM := (RJ17, cJ17_valueOf, 1, (some (.object "java/lang/Integer")), "valueOf", [])
noncomputable def F_J17_valueOf (a0 : Int32) (h : zSt) : Option ((Nat × Nat) × (Option Nat × zSt)) := if a0 < (-128) then zpay (1, 1) (zg (zfree h) (zlet (hN h) (fun o_4 => zlet (znA h 17 0) (fun h_2 => zc1 (F_J17_init o_4 a0 h_2) (fun c_8 h_7 => zpay c_8 (some ((0, 0), ((some o_4), h_7)))))))) else if 127 < a0 then zpay (1, 1) (zg (zfree h) (zlet (hN h) (fun o_12 => zlet (znA h 17 0) (fun h_10 => zc1 (F_J17_init o_12 a0 h_10) (fun c_16 h_15 => zpay c_16 (some ((0, 0), ((some o_12), h_15)))))))) else zg ((hK h) 18).isSome (zka (hK h) 18 71 (fun n_18 => zg (zin (a0 + 128) n_18) (zb1 ((jF h) 18 ((a0 + 128).toNatClampNeg)) (fun o_21 => some ((0, 0), ((some o_21), h))))))
set_option maxHeartbeats 1000000 in
theorem C_J17_valueOf {l : Launch} {G : zGt} (htr : l.stackTraces = false) {a0 : Int32} {h : zSt} {cc : Nat × Nat} {r : Option Nat × zSt} (hF : F_J17_valueOf a0 h = some (cc, r)) : zMet l G yJ17_valueOf (ws_ yJ17_valueOf cJ17_valueOf 1 (some (.object "java/lang/Integer"))) 3 65 (cc.1 + 0) (cc.2 + 0) [.int a0] (hK h) (jF h) (hI h) (hL h) (zQe (.inl (some (zrf r.1))) (hK r.2) (jF r.2) (hI r.2) (hL r.2)) := by
  refine zMet.of (by decide +kernel) htr (Nat.le_of_ble_eq_true rfl) ?_
  change zW l G MJ17_valueOf 3 65 (cc.1 + 0) (cc.2 + 0) 0 [(0, .int a0)] [] (hK h) (jF h) (hI h) (hL h) (zQe (.inl (some (zrf r.1))) (hK r.2) (jF r.2) (hI r.2) (hL r.2))
  unfold F_J17_valueOf at hF
  refine z_iload_n (n := 1) dJ17_valueOf_0 rfl 0 rfl rfl ?_
  refine z_bipush (n := 3) (v := (-128)) dJ17_valueOf_1 rfl (by decide) ?_
  refine z_icmp_lt (n := 6) (t := 23) dJ17_valueOf_3 rfl (by decide) (fun hc => ?_) (fun hc => ?_)
  · replace hF := (if_pos hc).symm.trans hF
    obtain ⟨cc, hF, hcc⟩ := zpay_some hF
    refine z_payE hcc ?_
    obtain ⟨hn_1, hF⟩ := zg_some hF
    obtain ⟨o_4, e_5, hF⟩ := zlet_ob hF
    obtain ⟨h_2, e_3, hF⟩ := zlet_ob hF
    refine z_newT (n := 26) dJ17_valueOf_23 rfl zok17 ⟨_, rfl, rfl, q1201⟩ q1200 q125 hn_1 e_5 e_3 rfl ?_
    refine z_dup (n := 27) dJ17_valueOf_26 rfl rfl ?_
    refine z_iload_n (n := 28) dJ17_valueOf_27 rfl 0 rfl rfl ?_
    obtain ⟨c_8, h_7, c_6, hF⟩ := zc1_some hF
    obtain ⟨cc, hF, hcc⟩ := zpay_some hF
    refine z_payE hcc ?_
    refine z_cI (n := 31) (mc2 := (cc.1 + 0)) (ms2 := (cc.2 + 0)) (st := [.ref o_4]) (C_J17_init htr c_6) dJ17_valueOf_28 rfl q1204 q125 q1202 q1203 rfl hcee_J17_init rfl (by decide) rfl (Nat.le_of_ble_eq_true rfl) (Nat.le_of_eq (Nat.add_comm _ _)) (Nat.le_of_eq (Nat.add_comm _ _)) ?_
    obtain ⟨rfl, rfl⟩ := zpair hF
    exact z_aret (r := (some o_4)) dJ17_valueOf_31 rfl (Or.inl ⟨_, rfl⟩) ⟨rfl, rfl, rfl, rfl, rfl⟩
  · replace hF := (if_neg hc).symm.trans hF
    refine z_iload_n (n := 7) dJ17_valueOf_6 rfl 0 rfl rfl ?_
    refine z_gets (n := 10) (v := .int 127) dJ17_valueOf_7 rfl zst_IntegerCache_high q1196 (fun j h => by cases h) ?_
    refine z_icmp_gt (n := 13) (t := 23) dJ17_valueOf_10 rfl (by decide) (fun hc => ?_) (fun hc => ?_)
    · replace hF := (if_pos hc).symm.trans hF
      obtain ⟨cc, hF, hcc⟩ := zpay_some hF
      refine z_payE hcc ?_
      obtain ⟨hn_9, hF⟩ := zg_some hF
      obtain ⟨o_12, e_13, hF⟩ := zlet_ob hF
      obtain ⟨h_10, e_11, hF⟩ := zlet_ob hF
      refine z_newT (n := 26) dJ17_valueOf_23 rfl zok17 ⟨_, rfl, rfl, q1201⟩ q1200 q125 hn_9 e_13 e_11 rfl ?_
      refine z_dup (n := 27) dJ17_valueOf_26 rfl rfl ?_
      refine z_iload_n (n := 28) dJ17_valueOf_27 rfl 0 rfl rfl ?_
      obtain ⟨c_16, h_15, c_14, hF⟩ := zc1_some hF
      obtain ⟨cc, hF, hcc⟩ := zpay_some hF
      refine z_payE hcc ?_
      refine z_cI (n := 31) (mc2 := (cc.1 + 0)) (ms2 := (cc.2 + 0)) (st := [.ref o_12]) (C_J17_init htr c_14) dJ17_valueOf_28 rfl q1204 q125 q1202 q1203 rfl hcee_J17_init rfl (by decide) rfl (Nat.le_of_ble_eq_true rfl) (Nat.le_of_eq (Nat.add_comm _ _)) (Nat.le_of_eq (Nat.add_comm _ _)) ?_
      obtain ⟨rfl, rfl⟩ := zpair hF
      exact z_aret (r := (some o_12)) dJ17_valueOf_31 rfl (Or.inl ⟨_, rfl⟩) ⟨rfl, rfl, rfl, rfl, rfl⟩
    · replace hF := (if_neg hc).symm.trans hF
      obtain ⟨hk_17, hF⟩ := zg_some hF
      refine z_gets (n := 16) (v := .ref 18) dJ17_valueOf_13 rfl zst_IntegerCache_cache q1198 (fun j h => by cases h; exact ⟨by decide, zsome hk_17⟩) ?_
      refine z_iload_n (n := 17) dJ17_valueOf_16 rfl 0 rfl rfl ?_
      refine z_sipush (n := 20) (v := 128) dJ17_valueOf_17 rfl (by decide) ?_
      refine z_iadd (n := 21) dJ17_valueOf_20 rfl ?_
      obtain ⟨n_18, hk_19, hF⟩ := zka_some hF
      obtain ⟨h_20, hF⟩ := zg_some hF
      obtain ⟨o_21, hr_22, hF⟩ := zb1_some hF
      refine z_aald7S (n := 22) ((a0 + 128).toNatClampNeg) rfl dJ17_valueOf_21 rfl hk_19 (zin_ok h_20) hr_22 ?_
      obtain ⟨rfl, rfl⟩ := zpair hF
      exact z_aret (r := (some o_21)) dJ17_valueOf_22 rfl (Or.inl ⟨_, rfl⟩) ⟨rfl, rfl, rfl, rfl, rfl⟩
abbrev MJ7_init : zM := (RJ7, cJ7_init, 2, none, "<init>", [])
noncomputable def F_J7_init (o0 : Nat) (a0 : Int32) (h : zSt) : Option ((Nat × Nat) × (zSt)) := if (1 : Int32) = 0 then none else zg (zarrn a0) (zpay (1, a0.toNatClampNeg) (zg (zfree h) (zlet (hN h) (fun o_5 => zlet (znA h 65 a0.toNatClampNeg) (fun h_3 => zka (hK h_3) o0 16 (fun n_7 => zg (decide (600 ≤ o0)) (zlet (zsF h_3 (zu (jF h_3) o0 0 (some o_5))) (fun h_10 => zka (hK h_10) o0 16 (fun n_12 => zlet (zsI h_10 (zu (hI h_10) o0 1 0)) (fun h_14 => some ((0, 0), h_14)))))))))))
set_option maxHeartbeats 1000000 in
theorem C_J7_init {l : Launch} {G : zGt} (htr : l.stackTraces = false) {o0 : Nat} {a0 : Int32} {h : zSt} {cc : Nat × Nat} {r : zSt} (hF : F_J7_init o0 a0 h = some (cc, r)) : zMet l G yJ7_init (ws_ yJ7_init cJ7_init 2 none) 1 24 (cc.1 + 0) (cc.2 + 0) [.ref o0, .int a0] (hK h) (jF h) (hI h) (hL h) (zQe (.inl none) (hK r) (jF r) (hI r) (hL r)) := by
  refine zMet.of (by decide +kernel) htr (Nat.le_of_ble_eq_true rfl) ?_
  change zW l G MJ7_init 1 24 (cc.1 + 0) (cc.2 + 0) 0 [(0, .ref o0), (1, .int a0)] [] (hK h) (jF h) (hI h) (hL h) (zQe (.inl none) (hK r) (jF r) (hI r) (hL r))
  unfold F_J7_init at hF
  refine z_aload_n (n := 1) dJ7_init_0 rfl 0 rfl rfl ?_
  refine z_objInit (n := 4) dJ7_init_1 rfl q224 q151 q152 (by decide) (Nat.le_of_ble_eq_true rfl) ?_
  refine z_gets (n := 7) (v := .int 1) dJ7_init_4 rfl zst_String_COMPACT_STRINGS q225 (fun j h => by cases h) ?_
  refine z_if_eq (n := 10) (t := 25) dJ7_init_7 rfl (by decide) (fun hc => ?_) (fun hc => ?_)
  · replace hF := (if_pos hc).symm.trans hF
    refine z_aload_n (n := 26) dJ7_init_25 rfl 0 rfl rfl ?_
    refine z_iload_n (n := 27) dJ7_init_26 rfl 1 rfl rfl ?_
    cases hF -- callee J10_newBytesFor
  · replace hF := (if_neg hc).symm.trans hF
    refine z_aload_n (n := 11) dJ7_init_10 rfl 0 rfl rfl ?_
    refine z_iload_n (n := 12) dJ7_init_11 rfl 1 rfl rfl ?_
    obtain ⟨h_1, hF⟩ := zg_some hF
    obtain ⟨cc, hF, hcc⟩ := zpay_some hF
    refine z_payE hcc ?_
    obtain ⟨hn_2, hF⟩ := zg_some hF
    obtain ⟨o_5, e_6, hF⟩ := zlet_ob hF
    obtain ⟨h_3, e_4, hF⟩ := zlet_ob hF
    refine z_newaT (t := 1) (n := 14) .byte dJ7_init_12 rfl rfl (by decide) q247 h_1 rfl (by decide) hn_2 e_6 e_4 ?_
    obtain ⟨n_7, hk_8, hF⟩ := zka_some hF
    obtain ⟨hb_9, hF⟩ := zg_some hF
    obtain ⟨h_10, e_11, hF⟩ := zlet_ob hF
    refine z_putR (r := (some o_5)) (n := 17) dJ7_init_14 rfl zok16 fJ7_15_16 (Or.inl ⟨_, rfl, rfl⟩) rfl hk_8 (zbig hb_9) ?_
    refine z_toF e_11 ?_
    refine z_aload_n (n := 18) dJ7_init_17 rfl 0 rfl rfl ?_
    refine z_iconst (n := 19) (v := 0) dJ7_init_18 rfl (by decide) ?_
    obtain ⟨n_12, hk_13, hF⟩ := zka_some hF
    obtain ⟨h_14, e_15, hF⟩ := zlet_ob hF
    refine z_putIE (n := 22) dJ7_init_19 rfl zok16 fJ7_22_16 (Or.inl ⟨_, rfl, rfl⟩) rfl ⟨rfl, rfl⟩ hk_13 (zbig hb_9) rfl ?_
    refine z_toI e_15 ?_
    refine z_goto (t := 38) dJ7_init_22 (by decide) ?_
    obtain ⟨rfl, rfl⟩ := zpair hF
    exact z_vret dJ7_init_38 rfl ⟨rfl, rfl, rfl, rfl, rfl⟩
theorem hcee_J7_init : zCee yJ7_init RJ7 1 := ⟨rfl, by decide +kernel, by decide +kernel, by decide +kernel⟩
abbrev MJ8_init_2 : zM := (RJ8, cJ8_init_2, 2, none, "<init>", [])
noncomputable def F_J8_init_2 (o0 : Nat) (a0 : Int32) (h : zSt) : Option ((Nat × Nat) × (zSt)) := zc1 (F_J7_init o0 a0 h) (fun c_3 h_2 => zpay c_3 (some ((0, 0), h_2)))
set_option maxHeartbeats 1000000 in
theorem C_J8_init_2 {l : Launch} {G : zGt} (htr : l.stackTraces = false) {o0 : Nat} {a0 : Int32} {h : zSt} {cc : Nat × Nat} {r : zSt} (hF : F_J8_init_2 o0 a0 h = some (cc, r)) : zMet l G yJ8_init_2 (ws_ yJ8_init_2 cJ8_init_2 2 none) 2 45 (cc.1 + 0) (cc.2 + 0) [.ref o0, .int a0] (hK h) (jF h) (hI h) (hL h) (zQe (.inl none) (hK r) (jF r) (hI r) (hL r)) := by
  refine zMet.of (by decide +kernel) htr (Nat.le_of_ble_eq_true rfl) ?_
  change zW l G MJ8_init_2 2 45 (cc.1 + 0) (cc.2 + 0) 0 [(0, .ref o0), (1, .int a0)] [] (hK h) (jF h) (hI h) (hL h) (zQe (.inl none) (hK r) (jF r) (hI r) (hL r))
  unfold F_J8_init_2 at hF
  refine z_aload_n (n := 1) dJ8_init_2_0 rfl 0 rfl rfl ?_
  refine z_iload_n (n := 2) dJ8_init_2_1 rfl 1 rfl rfl ?_
  obtain ⟨c_3, h_2, c_1, hF⟩ := zc1_some hF
  obtain ⟨cc, hF, hcc⟩ := zpay_some hF
  refine z_payE hcc ?_
  refine z_cI (n := 5) (mc2 := (cc.1 + 0)) (ms2 := (cc.2 + 0)) (st := []) (C_J7_init htr c_1) dJ8_init_2_2 rfl q223 q114 q221 q222 rfl hcee_J7_init rfl (by decide) rfl (Nat.le_of_ble_eq_true rfl) (Nat.le_of_eq (Nat.add_comm _ _)) (Nat.le_of_eq (Nat.add_comm _ _)) ?_
  obtain ⟨rfl, rfl⟩ := zpair hF
  exact z_vret dJ8_init_2_5 rfl ⟨rfl, rfl, rfl, rfl, rfl⟩
abbrev MJ15_canEncode : zM := (RJ15, cJ15_canEncode, 1, (some .boolean), "canEncode", [])
noncomputable def F_J15_canEncode (K : zKd) (F : zFd) (a0 : Int32) (I : zId) : Option (Int32) := if 255 < a0 then some 0 else some 1
set_option maxHeartbeats 1000000 in
theorem C_J15_canEncode {l : Launch} {G : zGt} (htr : l.stackTraces = false) {K : zKd} {F : zFd} {L : zLd} {a0 : Int32} {I : zId} {r : Int32} (hF : F_J15_canEncode K F a0 I = some r) : zMet l G yJ15_canEncode (ws_ yJ15_canEncode cJ15_canEncode 1 (some .boolean)) 0 0 0 0 [.int a0] K F I L (zQe (.inl (some (.int r))) K F I L) := by
  refine zMet.of (by decide +kernel) htr (Nat.le_of_ble_eq_true rfl) ?_
  change zW l G MJ15_canEncode 0 0 0 0 0 [(0, .int a0)] [] K F I L (zQe (.inl (some (.int r))) K F I L)
  unfold F_J15_canEncode at hF
  refine z_iload_n (n := 1) dJ15_canEncode_0 rfl 0 rfl rfl ?_
  refine z_sipush (n := 4) (v := 255) dJ15_canEncode_1 rfl (by decide) ?_
  refine z_icmp_gt (n := 7) (t := 11) dJ15_canEncode_4 rfl (by decide) (fun hc => ?_) (fun hc => ?_)
  · replace hF := (if_pos hc).symm.trans hF
    refine z_iconst (n := 12) (v := 0) dJ15_canEncode_11 rfl (by decide) ?_
    have hF := Option.some.inj hF; subst hF
    exact z_iret dJ15_canEncode_12 rfl rfl ⟨rfl, rfl, rfl, rfl, rfl⟩
  · replace hF := (if_neg hc).symm.trans hF
    refine z_iconst (n := 8) (v := 1) dJ15_canEncode_7 rfl (by decide) ?_
    refine z_goto (t := 12) dJ15_canEncode_8 (by decide) ?_
    have hF := Option.some.inj hF; subst hF
    exact z_iret dJ15_canEncode_12 rfl rfl ⟨rfl, rfl, rfl, rfl, rfl⟩
abbrev MJ13_copyOf : zM := (RJ13, cJ13_copyOf, 3, (some (.array .byte)), "copyOf", [])
noncomputable def F_J13_copyOf (a0 : Nat) (a1 : Int32) (h : zSt) : Option ((Nat × Nat) × (Option Nat × zSt)) := zka (hK h) a0 65 (fun n_1 => if ¬ a1 = (nI n_1) then zg (zarrn a1) (zpay (1, a1.toNatClampNeg) (zg (zfree h) (zlet (hN h) (fun o_7 => zlet (znA h 65 a1.toNatClampNeg) (fun h_5 => zka (hK h_5) a0 65 (fun n_9 => zka (hK h_5) o_7 65 (fun n_11 => zg (decide (600 ≤ a0)) (zg (decide (600 ≤ o_7)) (zg (zcpok 0 0 (zmin (nI n_9) a1) n_9 n_11) (zg (zcpfb (hI h_5) a0 0 ((zmin (nI n_9) a1).toNatClampNeg)) (zlet (zsI h_5 (zcpy (hI h_5) a0 0 o_7 0 ((zmin (nI n_9) a1).toNatClampNeg))) (fun h_17 => some ((0, 0), ((some o_7), h_17)))))))))))))) else none)
set_option maxHeartbeats 1000000 in
theorem C_J13_copyOf {l : Launch} {G : zGt} (htr : l.stackTraces = false) {a0 : Nat} {a1 : Int32} {h : zSt} {cc : Nat × Nat} {r : Option Nat × zSt} (hF : F_J13_copyOf a0 a1 h = some (cc, r)) : zMet l G yJ13_copyOf (ws_ yJ13_copyOf cJ13_copyOf 3 (some (.array .byte))) 1 60 (cc.1 + 0) (cc.2 + 0) [.ref a0, .int a1] (hK h) (jF h) (hI h) (hL h) (zQe (.inl (some (zrf r.1))) (hK r.2) (jF r.2) (hI r.2) (hL r.2)) := by
  refine zMet.of (by decide +kernel) htr (Nat.le_of_ble_eq_true rfl) ?_
  change zW l G MJ13_copyOf 1 60 (cc.1 + 0) (cc.2 + 0) 0 [(0, .ref a0), (1, .int a1)] [] (hK h) (jF h) (hI h) (hL h) (zQe (.inl (some (zrf r.1))) (hK r.2) (jF r.2) (hI r.2) (hL r.2))
  unfold F_J13_copyOf at hF
  refine z_iload_n (n := 1) dJ13_copyOf_0 rfl 1 rfl rfl ?_
  refine z_aload_n (n := 2) dJ13_copyOf_1 rfl 0 rfl rfl ?_
  obtain ⟨n_1, hk_2, hF⟩ := zka_some hF
  refine z_alen (n := 3) 1 (by decide) dJ13_copyOf_2 rfl hk_2 ?_
  refine z_icmp_ne (n := 6) (t := 14) dJ13_copyOf_3 rfl (by decide) (fun hc => ?_) (fun hc => ?_)
  · replace hF := (if_pos hc).symm.trans hF
    refine z_iload_n (n := 15) dJ13_copyOf_14 rfl 1 rfl rfl ?_
    obtain ⟨h_3, hF⟩ := zg_some hF
    obtain ⟨cc, hF, hcc⟩ := zpay_some hF
    refine z_payE hcc ?_
    obtain ⟨hn_4, hF⟩ := zg_some hF
    obtain ⟨o_7, e_8, hF⟩ := zlet_ob hF
    obtain ⟨h_5, e_6, hF⟩ := zlet_ob hF
    refine z_newaT (t := 1) (n := 17) .byte dJ13_copyOf_15 rfl rfl (by decide) q247 h_3 rfl (by decide) hn_4 e_8 e_6 ?_
    refine z_astore_nS (n := 18) (lv' := [(2, .ref o_7), (0, .ref a0), (1, .int a1)]) dJ13_copyOf_17 rfl rfl (by decide) rfl ?_
    refine z_aload_n (n := 19) dJ13_copyOf_18 rfl 1 rfl rfl ?_
    refine z_iconst (n := 20) (v := 0) dJ13_copyOf_19 rfl (by decide) ?_
    refine z_aload_n (n := 21) dJ13_copyOf_20 rfl 0 rfl rfl ?_
    refine z_iconst (n := 22) (v := 0) dJ13_copyOf_21 rfl (by decide) ?_
    refine z_aload_n (n := 23) dJ13_copyOf_22 rfl 1 rfl rfl ?_
    obtain ⟨n_9, hk_10, hF⟩ := zka_some hF
    refine z_alen (n := 24) 1 (by decide) dJ13_copyOf_23 rfl hk_10 ?_
    refine z_iload_n (n := 25) dJ13_copyOf_24 rfl 2 rfl rfl ?_
    refine z_min (n := 28) dJ13_copyOf_25 rfl q289 q290 q119 q291 (by decide) (Nat.le_of_ble_eq_true rfl) ?_
    obtain ⟨n_11, hk_12, hF⟩ := zka_some hF
    obtain ⟨hb_13, hF⟩ := zg_some hF
    obtain ⟨hb_14, hF⟩ := zg_some hF
    obtain ⟨h_15, hF⟩ := zg_some hF
    obtain ⟨h_16, hF⟩ := zg_some hF
    obtain ⟨h_17, e_18, hF⟩ := zlet_ob hF
    refine z_copyb (sk := 0) (dk := 0) (nk := ((zmin (nI n_9) a1).toNatClampNeg)) (n := 31) dJ13_copyOf_28 rfl q292 q294 q293 q121 hk_10 hk_12 (zbig hb_13) (zbig hb_14) h_15 h_16 (by decide) (by decide) rfl rfl (by decide) (Nat.le_of_ble_eq_true rfl) ?_
    refine z_toI e_18 ?_
    refine z_aload_n (n := 32) dJ13_copyOf_31 rfl 0 rfl rfl ?_
    obtain ⟨rfl, rfl⟩ := zpair hF
    exact z_aret (r := (some o_7)) dJ13_copyOf_32 rfl (Or.inr ⟨_, rfl⟩) ⟨rfl, rfl, rfl, rfl, rfl⟩
  · replace hF := (if_neg hc).symm.trans hF
    refine z_aload_n (n := 7) dJ13_copyOf_6 rfl 0 rfl rfl ?_
    cases hF -- callee ('[B', 'clone', '()Ljava/lang/Object;')
abbrev MJ7_newCapacity : zM := (RJ7, cJ7_newCapacity, 6, (some .int), "newCapacity", [])
noncomputable def F_J7_newCapacity (K : zKd) (F : zFd) (o0 : Nat) (a0 : Int32) (I : zId) : Option (Int32 × zId) := zka K o0 16 (fun n_1 => zg (decide (600 ≤ o0)) (zb1 (F o0 0) (fun o_4 => zka K o_4 65 (fun n_6 => zlet (nI n_6) (fun v2_8 => zlet (a0 <<< ((I o0 1) &&& (31 : Int32))) (fun v3_10 => zlet (v3_10 - v2_8) (fun v4_12 => zb1 (F_J11_newLength K F v2_8 v4_12 (v2_8 + ((2 : Int32) <<< ((I o0 1) &&& (31 : Int32)))) I) (fun x_15 => if ¬ x_15 = 2147483647 then some (x_15 >>> ((I o0 1) &&& (31 : Int32)), I) else none))))))))
set_option maxHeartbeats 1000000 in
theorem C_J7_newCapacity {l : Launch} {G : zGt} (htr : l.stackTraces = false) {K : zKd} {F : zFd} {L : zLd} {o0 : Nat} {a0 : Int32} {I : zId} {r : Int32 × zId} (hF : F_J7_newCapacity K F o0 a0 I = some r) : zMet l G yJ7_newCapacity (ws_ yJ7_newCapacity cJ7_newCapacity 6 (some .int)) 2 47 0 0 [.ref o0, .int a0] K F I L (zQe (.inl (some (.int r.1))) K F r.2 L) := by
  refine zMet.of (by decide +kernel) htr (Nat.le_of_ble_eq_true rfl) ?_
  change zW l G MJ7_newCapacity 2 47 0 0 0 [(0, .ref o0), (1, .int a0)] [] K F I L (zQe (.inl (some (.int r.1))) K F r.2 L)
  unfold F_J7_newCapacity at hF
  refine z_aload_n (n := 1) dJ7_newCapacity_0 rfl 0 rfl rfl ?_
  obtain ⟨n_1, hk_2, hF⟩ := zka_some hF
  obtain ⟨hb_3, hF⟩ := zg_some hF
  obtain ⟨o_4, hr_5, hF⟩ := zb1_some hF
  refine z_getRS (n := 4) dJ7_newCapacity_1 rfl zok16 fJ7_15_16 rfl hk_2 (Or.inl (zbig hb_3)) hr_5 ?_
  obtain ⟨n_6, hk_7, hF⟩ := zka_some hF
  refine z_alen (n := 5) 1 (by decide) dJ7_newCapacity_4 rfl hk_7 ?_
  obtain ⟨v2_8, e_9, hF⟩ := zlet_ob hF
  refine z_istore_nE (n := 6) (lv' := [(2, .int v2_8), (0, .ref o0), (1, .int a0)]) dJ7_newCapacity_5 rfl e_9 rfl (by decide) rfl ?_
  refine z_iload_n (n := 7) dJ7_newCapacity_6 rfl 2 rfl rfl ?_
  refine z_aload_n (n := 8) dJ7_newCapacity_7 rfl 1 rfl rfl ?_
  refine z_getI (n := 11) dJ7_newCapacity_8 rfl zok16 fJ7_22_16 rfl hk_2 (Or.inl (zbig hb_3)) ?_
  refine z_ishl (n := 12) dJ7_newCapacity_11 rfl ?_
  obtain ⟨v3_10, e_11, hF⟩ := zlet_ob hF
  refine z_istore_nE (n := 13) (lv' := [(3, .int v3_10), (2, .int v2_8), (0, .ref o0), (1, .int a0)]) dJ7_newCapacity_12 rfl e_11 rfl (by decide) rfl ?_
  refine z_iload_n (n := 14) dJ7_newCapacity_13 rfl 0 rfl rfl ?_
  refine z_iload_n (n := 15) dJ7_newCapacity_14 rfl 1 rfl rfl ?_
  refine z_isub (n := 16) dJ7_newCapacity_15 rfl ?_
  obtain ⟨v4_12, e_13, hF⟩ := zlet_ob hF
  refine z_istoreE (n := 18) (lv' := [(4, .int v4_12), (3, .int v3_10), (2, .int v2_8), (0, .ref o0), (1, .int a0)]) dJ7_newCapacity_16 rfl e_13 (by decide) rfl ?_
  refine z_iload_n (n := 19) dJ7_newCapacity_18 rfl 2 rfl rfl ?_
  refine z_iload (n := 21) dJ7_newCapacity_19 rfl 0 rfl ?_
  refine z_iload_n (n := 22) dJ7_newCapacity_21 rfl 2 rfl rfl ?_
  refine z_iconst (n := 23) (v := 2) dJ7_newCapacity_22 rfl (by decide) ?_
  refine z_aload_n (n := 24) dJ7_newCapacity_23 rfl 3 rfl rfl ?_
  refine z_getI (n := 27) dJ7_newCapacity_24 rfl zok16 fJ7_22_16 rfl hk_2 (Or.inl (zbig hb_3)) ?_
  refine z_ishl (n := 28) dJ7_newCapacity_27 rfl ?_
  refine z_iadd (n := 29) dJ7_newCapacity_28 rfl ?_
  obtain ⟨x_15, c_14, hF⟩ := zb1_some hF
  refine z_cS (n := 32) (st := []) (C_J11_newLength htr c_14) dJ7_newCapacity_29 rfl (lw_S q268 q269 q118 q270) hcee_J11_newLength rfl (by decide) rfl (Nat.le_of_ble_eq_true rfl) (Nat.le_refl _) (Nat.le_refl _) ?_
  refine z_istoreE (n := 34) (lv' := [(5, .int x_15), (4, .int v4_12), (3, .int v3_10), (2, .int v2_8), (0, .ref o0), (1, .int a0)]) dJ7_newCapacity_32 rfl rfl (by decide) rfl ?_
  refine z_iload (n := 36) dJ7_newCapacity_34 rfl 0 rfl ?_
  refine z_ldc (n := 38) dJ7_newCapacity_36 rfl q278 ?_
  refine z_icmp_ne (n := 41) (t := 51) dJ7_newCapacity_38 rfl (by decide) (fun hc => ?_) (fun hc => ?_)
  · replace hF := (if_pos hc).symm.trans hF
    refine z_iload (n := 53) dJ7_newCapacity_51 rfl 0 rfl ?_
    refine z_aload_n (n := 54) dJ7_newCapacity_53 rfl 4 rfl rfl ?_
    refine z_getI (n := 57) dJ7_newCapacity_54 rfl zok16 fJ7_22_16 rfl hk_2 (Or.inl (zbig hb_3)) ?_
    refine z_ishr (n := 58) dJ7_newCapacity_57 rfl ?_
    have hF := Option.some.inj hF; subst hF
    exact z_iret dJ7_newCapacity_58 rfl rfl ⟨rfl, rfl, rfl, rfl, rfl⟩
  · replace hF := (if_neg hc).symm.trans hF
    cases hF -- new ?
theorem hcee_J7_newCapacity : zCee yJ7_newCapacity RJ7 1 := ⟨rfl, by decide +kernel, by decide +kernel, by decide +kernel⟩
abbrev MJ7_ensureCapacityInternal : zM := (RJ7, cJ7_ensureCapacityInternal, 3, none, "ensureCapacityInternal", [])
noncomputable def F_J7_ensureCapacityInternal (o0 : Nat) (a0 : Int32) (h : zSt) : Option ((Nat × Nat) × (zSt)) := zka (hK h) o0 16 (fun n_1 => zg (decide (600 ≤ o0)) (zb1 ((jF h) o0 0) (fun o_4 => zka (hK h) o_4 65 (fun n_6 => zlet ((nI n_6) >>> (((hI h) o0 1) &&& (31 : Int32))) (fun v2_8 => if (a0 - v2_8) ≤ 0 then some ((0, 0), h) else zb1 ((jF h) o0 0) (fun o_10 => zb2 (F_J7_newCapacity (hK h) (jF h) o0 a0 (hI h)) (fun x_13 I_14 => none)))))))
set_option maxHeartbeats 1000000 in
theorem C_J7_ensureCapacityInternal {l : Launch} {G : zGt} (htr : l.stackTraces = false) {o0 : Nat} {a0 : Int32} {h : zSt} {cc : Nat × Nat} {r : zSt} (hF : F_J7_ensureCapacityInternal o0 a0 h = some (cc, r)) : zMet l G yJ7_ensureCapacityInternal (ws_ yJ7_ensureCapacityInternal cJ7_ensureCapacityInternal 3 none) 3 72 (cc.1 + 0) (cc.2 + 0) [.ref o0, .int a0] (hK h) (jF h) (hI h) (hL h) (zQe (.inl none) (hK r) (jF r) (hI r) (hL r)) := by
  refine zMet.of (by decide +kernel) htr (Nat.le_of_ble_eq_true rfl) ?_
  change zW l G MJ7_ensureCapacityInternal 3 72 (cc.1 + 0) (cc.2 + 0) 0 [(0, .ref o0), (1, .int a0)] [] (hK h) (jF h) (hI h) (hL h) (zQe (.inl none) (hK r) (jF r) (hI r) (hL r))
  unfold F_J7_ensureCapacityInternal at hF
  refine z_aload_n (n := 1) dJ7_ensureCapacityInternal_0 rfl 0 rfl rfl ?_
  obtain ⟨n_1, hk_2, hF⟩ := zka_some hF
  obtain ⟨hb_3, hF⟩ := zg_some hF
  obtain ⟨o_4, hr_5, hF⟩ := zb1_some hF
  refine z_getRS (n := 4) dJ7_ensureCapacityInternal_1 rfl zok16 fJ7_15_16 rfl hk_2 (Or.inl (zbig hb_3)) hr_5 ?_
  obtain ⟨n_6, hk_7, hF⟩ := zka_some hF
  refine z_alen (n := 5) 1 (by decide) dJ7_ensureCapacityInternal_4 rfl hk_7 ?_
  refine z_aload_n (n := 6) dJ7_ensureCapacityInternal_5 rfl 0 rfl rfl ?_
  refine z_getI (n := 9) dJ7_ensureCapacityInternal_6 rfl zok16 fJ7_22_16 rfl hk_2 (Or.inl (zbig hb_3)) ?_
  refine z_ishr (n := 10) dJ7_ensureCapacityInternal_9 rfl ?_
  obtain ⟨v2_8, e_9, hF⟩ := zlet_ob hF
  refine z_istore_nE (n := 11) (lv' := [(2, .int v2_8), (0, .ref o0), (1, .int a0)]) dJ7_ensureCapacityInternal_10 rfl e_9 rfl (by decide) rfl ?_
  refine z_iload_n (n := 12) dJ7_ensureCapacityInternal_11 rfl 2 rfl rfl ?_
  refine z_iload_n (n := 13) dJ7_ensureCapacityInternal_12 rfl 0 rfl rfl ?_
  refine z_isub (n := 14) dJ7_ensureCapacityInternal_13 rfl ?_
  refine z_if_le (n := 17) (t := 38) dJ7_ensureCapacityInternal_14 rfl (by decide) (fun hc => ?_) (fun hc => ?_)
  · replace hF := (if_pos hc).symm.trans hF
    obtain ⟨rfl, rfl⟩ := zpair hF
    exact z_vret dJ7_ensureCapacityInternal_38 rfl ⟨rfl, rfl, rfl, rfl, rfl⟩
  · replace hF := (if_neg hc).symm.trans hF
    refine z_aload_n (n := 18) dJ7_ensureCapacityInternal_17 rfl 1 rfl rfl ?_
    refine z_aload_n (n := 19) dJ7_ensureCapacityInternal_18 rfl 1 rfl rfl ?_
    obtain ⟨o_10, hr_11, hF⟩ := zb1_some hF
    refine z_getRS (n := 22) dJ7_ensureCapacityInternal_19 rfl zok16 fJ7_15_16 rfl hk_2 (Or.inl (zbig hb_3)) hr_11 ?_
    refine z_aload_n (n := 23) dJ7_ensureCapacityInternal_22 rfl 1 rfl rfl ?_
    refine z_iload_n (n := 24) dJ7_ensureCapacityInternal_23 rfl 2 rfl rfl ?_
    obtain ⟨x_13, I_14, c_12, hF⟩ := zb2_some hF
    cases hF -- no word ('selects', 'java/lang/StringBuilder', ('java/lang/AbstractStringBuilder', 'newC
theorem hcee_J15_canEncode : zCee yJ15_canEncode RJ15 1 := ⟨rfl, by decide +kernel, by decide +kernel, by decide +kernel⟩
theorem hcee_J7_ensureCapacityInternal : zCee yJ7_ensureCapacityInternal RJ7 1 := ⟨rfl, by decide +kernel, by decide +kernel, by decide +kernel⟩
abbrev MJ7_append_3 : zM := (RJ7, cJ7_append_3, 2, (some (.object "java/lang/AbstractStringBuilder")), "append", [])
noncomputable def F_J7_append_3 (o0 : Nat) (a0 : Int32) (h : zSt) : Option ((Nat × Nat) × (Option Nat × zSt)) := zka (hK h) o0 16 (fun n_1 => zg (decide (600 ≤ o0)) (zc1 (F_J7_ensureCapacityInternal o0 (((hI h) o0 3) + 1) h) (fun c_6 h_5 => zpay c_6 (zka (hK h_5) o0 16 (fun n_7 => zb1 (F_J7_isLatin1 (hK h_5) (jF h_5) o0 (hI h_5)) (fun x_10 => if x_10 = 0 then zb1 (F_J7_isLatin1 (hK h_5) (jF h_5) o0 (hI h_5)) (fun x_12 => if x_12 = 0 then zb1 ((jF h_5) o0 0) (fun o_13 => zlet (zsI h_5 (zu (hI h_5) o0 3 (((hI h_5) o0 3) + 1))) (fun h_15 => none)) else none) else zb1 (F_J15_canEncode (hK h_5) (jF h_5) a0 (hI h_5)) (fun x_18 => if x_18 = 0 then zb1 (F_J7_isLatin1 (hK h_5) (jF h_5) o0 (hI h_5)) (fun x_20 => if x_20 = 0 then zb1 ((jF h_5) o0 0) (fun o_21 => zlet (zsI h_5 (zu (hI h_5) o0 3 (((hI h_5) o0 3) + 1))) (fun h_23 => none)) else none) else zb1 ((jF h_5) o0 0) (fun o_25 => zlet (zsI h_5 (zu (hI h_5) o0 3 (((hI h_5) o0 3) + 1))) (fun h_27 => zka (hK h_27) o_25 65 (fun n_29 => zg (zin ((hI h_5) o0 3) n_29) (zg (decide (600 ≤ o_25)) (zlet (zsI h_27 (zu (hI h_27) o_25 (((hI h_5) o0 3).toNatClampNeg) (vp_nar .byte a0.toInt8.toInt32))) (fun h_33 => some ((0, 0), ((some o0), h_33)))))))))))))))
set_option maxHeartbeats 1000000 in
theorem C_J7_append_3 {l : Launch} {G : zGt} (htr : l.stackTraces = false) {o0 : Nat} {a0 : Int32} {h : zSt} {cc : Nat × Nat} {r : Option Nat × zSt} (hF : F_J7_append_3 o0 a0 h = some (cc, r)) : zMet l G yJ7_append_3 (ws_ yJ7_append_3 cJ7_append_3 2 (some (.object "java/lang/AbstractStringBuilder"))) 4 94 (cc.1 + 0) (cc.2 + 0) [.ref o0, .int a0] (hK h) (jF h) (hI h) (hL h) (zQe (.inl (some (zrf r.1))) (hK r.2) (jF r.2) (hI r.2) (hL r.2)) := by
  refine zMet.of (by decide +kernel) htr (Nat.le_of_ble_eq_true rfl) ?_
  change zW l G MJ7_append_3 4 94 (cc.1 + 0) (cc.2 + 0) 0 [(0, .ref o0), (1, .int a0)] [] (hK h) (jF h) (hI h) (hL h) (zQe (.inl (some (zrf r.1))) (hK r.2) (jF r.2) (hI r.2) (hL r.2))
  unfold F_J7_append_3 at hF
  refine z_aload_n (n := 1) dJ7_append_3_0 rfl 0 rfl rfl ?_
  refine z_aload_n (n := 2) dJ7_append_3_1 rfl 0 rfl rfl ?_
  obtain ⟨n_1, hk_2, hF⟩ := zka_some hF
  obtain ⟨hb_3, hF⟩ := zg_some hF
  refine z_getI (n := 5) dJ7_append_3_2 rfl zok16 fJ7_79_16 rfl hk_2 (Or.inl (zbig hb_3)) ?_
  refine z_iconst (n := 6) (v := 1) dJ7_append_3_5 rfl (by decide) ?_
  refine z_iadd (n := 7) dJ7_append_3_6 rfl ?_
  obtain ⟨c_6, h_5, c_4, hF⟩ := zc1_some hF
  obtain ⟨cc, hF, hcc⟩ := zpay_some hF
  refine z_payE hcc ?_
  refine z_cP (n := 10) (mc2 := (cc.1 + 0)) (ms2 := (cc.2 + 0)) (st := []) (y2 := yJ7_isLatin1) (C_J7_ensureCapacityInternal htr c_4) dJ7_append_3_7 rfl q260 q2294 q298 rfl q262 q114 q263 ⟨hcee_J7_ensureCapacityInternal.2.1, hcee_J7_ensureCapacityInternal.2.2.1, hcee_J7_ensureCapacityInternal.2.2.2⟩ rfl (by decide) hk_2 rfl rfl rfl (Nat.le_of_ble_eq_true rfl) (Nat.le_of_eq (Nat.add_comm _ _)) (Nat.le_of_eq (Nat.add_comm _ _)) ?_
  refine z_aload_n (n := 11) dJ7_append_3_10 rfl 0 rfl rfl ?_
  obtain ⟨n_7, hk_8, hF⟩ := zka_some hF
  obtain ⟨x_10, c_9, hF⟩ := zb1_some hF
  refine z_cU (n := 14) (mc2 := (cc.1 + 0)) (ms2 := (cc.2 + 0)) (st := []) (x := yJ7_isLatin1) (C_J7_isLatin1 htr c_9) dJ7_append_3_11 rfl q295 q297 q298 q296 q114 q299 q296 q299 ⟨hcee_J7_isLatin1.2.1, hcee_J7_isLatin1.2.2.1, hcee_J7_isLatin1.2.2.2⟩ rfl (by decide) hk_8 rfl rfl rfl (Nat.le_of_ble_eq_true rfl) (Nat.le_refl _) (Nat.le_refl _) ?_
  refine z_if_eq (n := 17) (t := 45) dJ7_append_3_14 rfl (by decide) (fun hc => ?_) (fun hc => ?_)
  · replace hF := (if_pos hc).symm.trans hF
    refine z_aload_n (n := 46) dJ7_append_3_45 rfl 0 rfl rfl ?_
    obtain ⟨x_12, c_11, hF⟩ := zb1_some hF
    refine z_cU (n := 49) (mc2 := (cc.1 + 0)) (ms2 := (cc.2 + 0)) (st := []) (x := yJ7_isLatin1) (C_J7_isLatin1 htr c_11) dJ7_append_3_46 rfl q295 q297 q298 q296 q114 q299 q296 q299 ⟨hcee_J7_isLatin1.2.1, hcee_J7_isLatin1.2.2.1, hcee_J7_isLatin1.2.2.2⟩ rfl (by decide) hk_8 rfl rfl rfl (Nat.le_of_ble_eq_true rfl) (Nat.le_refl _) (Nat.le_refl _) ?_
    refine z_if_eq (n := 52) (t := 56) dJ7_append_3_49 rfl (by decide) (fun hc => ?_) (fun hc => ?_)
    · replace hF := (if_pos hc).symm.trans hF
      refine z_aload_n (n := 57) dJ7_append_3_56 rfl 0 rfl rfl ?_
      obtain ⟨o_13, hr_14, hF⟩ := zb1_some hF
      refine z_getRS (n := 60) dJ7_append_3_57 rfl zok16 fJ7_15_16 rfl hk_8 (Or.inl (zbig hb_3)) hr_14 ?_
      refine z_aload_n (n := 61) dJ7_append_3_60 rfl 0 rfl rfl ?_
      refine z_dup (n := 62) dJ7_append_3_61 rfl rfl ?_
      refine z_getI (n := 65) dJ7_append_3_62 rfl zok16 fJ7_79_16 rfl hk_8 (Or.inl (zbig hb_3)) ?_
      refine z_dup_x1 (n := 66) dJ7_append_3_65 rfl rfl rfl ?_
      refine z_iconst (n := 67) (v := 1) dJ7_append_3_66 rfl (by decide) ?_
      refine z_iadd (n := 68) dJ7_append_3_67 rfl ?_
      obtain ⟨h_15, e_16, hF⟩ := zlet_ob hF
      refine z_putIE (n := 71) dJ7_append_3_68 rfl zok16 fJ7_79_16 (Or.inl ⟨_, rfl, rfl⟩) rfl ⟨rfl, rfl⟩ hk_8 (zbig hb_3) rfl ?_
      refine z_toI e_16 ?_
      refine z_iload_n (n := 72) dJ7_append_3_71 rfl 1 rfl rfl ?_
      cases hF -- callee J10_putCharSB
    · replace hF := (if_neg hc).symm.trans hF
      refine z_aload_n (n := 53) dJ7_append_3_52 rfl 0 rfl rfl ?_
      cases hF -- callee J7_inflate
  · replace hF := (if_neg hc).symm.trans hF
    refine z_iload_n (n := 18) dJ7_append_3_17 rfl 1 rfl rfl ?_
    obtain ⟨x_18, c_17, hF⟩ := zb1_some hF
    refine z_cS (n := 21) (mc2 := (cc.1 + 0)) (ms2 := (cc.2 + 0)) (st := []) (C_J15_canEncode htr c_17) dJ7_append_3_18 rfl (lw_S q1000 q1001 q123 q1002) hcee_J15_canEncode rfl (by decide) rfl (Nat.le_of_ble_eq_true rfl) (Nat.le_refl _) (Nat.le_refl _) ?_
    refine z_if_eq (n := 24) (t := 45) dJ7_append_3_21 rfl (by decide) (fun hc => ?_) (fun hc => ?_)
    · replace hF := (if_pos hc).symm.trans hF
      refine z_aload_n (n := 46) dJ7_append_3_45 rfl 0 rfl rfl ?_
      obtain ⟨x_20, c_19, hF⟩ := zb1_some hF
      refine z_cU (n := 49) (mc2 := (cc.1 + 0)) (ms2 := (cc.2 + 0)) (st := []) (x := yJ7_isLatin1) (C_J7_isLatin1 htr c_19) dJ7_append_3_46 rfl q295 q297 q298 q296 q114 q299 q296 q299 ⟨hcee_J7_isLatin1.2.1, hcee_J7_isLatin1.2.2.1, hcee_J7_isLatin1.2.2.2⟩ rfl (by decide) hk_8 rfl rfl rfl (Nat.le_of_ble_eq_true rfl) (Nat.le_refl _) (Nat.le_refl _) ?_
      refine z_if_eq (n := 52) (t := 56) dJ7_append_3_49 rfl (by decide) (fun hc => ?_) (fun hc => ?_)
      · replace hF := (if_pos hc).symm.trans hF
        refine z_aload_n (n := 57) dJ7_append_3_56 rfl 0 rfl rfl ?_
        obtain ⟨o_21, hr_22, hF⟩ := zb1_some hF
        refine z_getRS (n := 60) dJ7_append_3_57 rfl zok16 fJ7_15_16 rfl hk_8 (Or.inl (zbig hb_3)) hr_22 ?_
        refine z_aload_n (n := 61) dJ7_append_3_60 rfl 0 rfl rfl ?_
        refine z_dup (n := 62) dJ7_append_3_61 rfl rfl ?_
        refine z_getI (n := 65) dJ7_append_3_62 rfl zok16 fJ7_79_16 rfl hk_8 (Or.inl (zbig hb_3)) ?_
        refine z_dup_x1 (n := 66) dJ7_append_3_65 rfl rfl rfl ?_
        refine z_iconst (n := 67) (v := 1) dJ7_append_3_66 rfl (by decide) ?_
        refine z_iadd (n := 68) dJ7_append_3_67 rfl ?_
        obtain ⟨h_23, e_24, hF⟩ := zlet_ob hF
        refine z_putIE (n := 71) dJ7_append_3_68 rfl zok16 fJ7_79_16 (Or.inl ⟨_, rfl, rfl⟩) rfl ⟨rfl, rfl⟩ hk_8 (zbig hb_3) rfl ?_
        refine z_toI e_24 ?_
        refine z_iload_n (n := 72) dJ7_append_3_71 rfl 1 rfl rfl ?_
        cases hF -- callee J10_putCharSB
      · replace hF := (if_neg hc).symm.trans hF
        refine z_aload_n (n := 53) dJ7_append_3_52 rfl 0 rfl rfl ?_
        cases hF -- callee J7_inflate
    · replace hF := (if_neg hc).symm.trans hF
      refine z_aload_n (n := 25) dJ7_append_3_24 rfl 0 rfl rfl ?_
      obtain ⟨o_25, hr_26, hF⟩ := zb1_some hF
      refine z_getRS (n := 28) dJ7_append_3_25 rfl zok16 fJ7_15_16 rfl hk_8 (Or.inl (zbig hb_3)) hr_26 ?_
      refine z_aload_n (n := 29) dJ7_append_3_28 rfl 0 rfl rfl ?_
      refine z_dup (n := 30) dJ7_append_3_29 rfl rfl ?_
      refine z_getI (n := 33) dJ7_append_3_30 rfl zok16 fJ7_79_16 rfl hk_8 (Or.inl (zbig hb_3)) ?_
      refine z_dup_x1 (n := 34) dJ7_append_3_33 rfl rfl rfl ?_
      refine z_iconst (n := 35) (v := 1) dJ7_append_3_34 rfl (by decide) ?_
      refine z_iadd (n := 36) dJ7_append_3_35 rfl ?_
      obtain ⟨h_27, e_28, hF⟩ := zlet_ob hF
      refine z_putIE (n := 39) dJ7_append_3_36 rfl zok16 fJ7_79_16 (Or.inl ⟨_, rfl, rfl⟩) rfl ⟨rfl, rfl⟩ hk_8 (zbig hb_3) rfl ?_
      refine z_toI e_28 ?_
      refine z_iload_n (n := 40) dJ7_append_3_39 rfl 1 rfl rfl ?_
      refine z_i2b (n := 41) dJ7_append_3_40 rfl ?_
      obtain ⟨n_29, hk_30, hF⟩ := zka_some hF
      obtain ⟨h_31, hF⟩ := zg_some hF
      obtain ⟨hb_32, hF⟩ := zg_some hF
      obtain ⟨h_33, e_34, hF⟩ := zlet_ob hF
      refine z_bastK (n := 42) (((hI h_5) o0 3).toNatClampNeg) rfl dJ7_append_3_41 rfl hk_30 (zbig hb_32) (zin_ok h_31) rfl ?_
      refine z_toI e_34 ?_
      refine z_goto (t := 75) dJ7_append_3_42 (by decide) ?_
      refine z_aload_n (n := 76) dJ7_append_3_75 rfl 0 rfl rfl ?_
      obtain ⟨rfl, rfl⟩ := zpair hF
      exact z_aret (r := (some o0)) dJ7_append_3_76 rfl (Or.inl ⟨_, rfl⟩) ⟨rfl, rfl, rfl, rfl, rfl⟩
theorem hcee_J7_append_3 : zCee yJ7_append_3 RJ7 1 := ⟨rfl, by decide +kernel, by decide +kernel, by decide +kernel⟩
abbrev MJ8_append_3 : zM := (RJ8, cJ8_append_3, 2, (some (.object "java/lang/StringBuilder")), "append", [])
noncomputable def F_J8_append_3 (o0 : Nat) (a0 : Int32) (h : zSt) : Option ((Nat × Nat) × (Option Nat × zSt)) := zka (hK h) o0 16 (fun n_1 => zc1 (F_J7_append_3 o0 a0 h) (fun c_6 => zn2 (fun q_4 h_5 => zpay c_6 (zb1 q_4 (fun o_8 => some ((0, 0), ((some o0), h_5)))))))
set_option maxHeartbeats 1000000 in
theorem C_J8_append_3 {l : Launch} {G : zGt} (htr : l.stackTraces = false) {o0 : Nat} {a0 : Int32} {h : zSt} {cc : Nat × Nat} {r : Option Nat × zSt} (hF : F_J8_append_3 o0 a0 h = some (cc, r)) : zMet l G yJ8_append_3 (ws_ yJ8_append_3 cJ8_append_3 2 (some (.object "java/lang/StringBuilder"))) 5 115 (cc.1 + 0) (cc.2 + 0) [.ref o0, .int a0] (hK h) (jF h) (hI h) (hL h) (zQe (.inl (some (zrf r.1))) (hK r.2) (jF r.2) (hI r.2) (hL r.2)) := by
  refine zMet.of (by decide +kernel) htr (Nat.le_of_ble_eq_true rfl) ?_
  change zW l G MJ8_append_3 5 115 (cc.1 + 0) (cc.2 + 0) 0 [(0, .ref o0), (1, .int a0)] [] (hK h) (jF h) (hI h) (hL h) (zQe (.inl (some (zrf r.1))) (hK r.2) (jF r.2) (hI r.2) (hL r.2))
  unfold F_J8_append_3 at hF
  refine z_aload_n (n := 1) dJ8_append_3_0 rfl 0 rfl rfl ?_
  refine z_iload_n (n := 2) dJ8_append_3_1 rfl 1 rfl rfl ?_
  obtain ⟨n_1, hk_2, hF⟩ := zka_some hF
  obtain ⟨c_6, t_7, c_3, hF⟩ := zc1_some hF
  obtain ⟨q_4, h_5⟩ := t_7
  dsimp only [zn2] at hF
  obtain ⟨cc, hF, hcc⟩ := zpay_some hF
  refine z_payE hcc ?_
  refine z_cSU (n := 5) (mc2 := (cc.1 + 0)) (ms2 := (cc.2 + 0)) (st := []) (C_J7_append_3 htr c_3) dJ8_append_3_2 rfl q999 q997 q2301 q246 q998 q114 ⟨by decide, hcee_J7_append_3.2.2.2⟩ rfl (by decide) hk_2 rfl rfl (Nat.le_of_ble_eq_true rfl) (Nat.le_of_eq (Nat.add_comm _ _)) (Nat.le_of_eq (Nat.add_comm _ _)) ?_
  obtain ⟨o_8, hr_9, hF⟩ := zb1_some hF
  rw [hr_9]
  refine z_pop (n := 6) dJ8_append_3_5 rfl rfl ?_
  refine z_aload_n (n := 7) dJ8_append_3_6 rfl 0 rfl rfl ?_
  obtain ⟨rfl, rfl⟩ := zpair hF
  exact z_aret (r := (some o0)) dJ8_append_3_7 rfl (Or.inl ⟨_, rfl⟩) ⟨rfl, rfl, rfl, rfl, rfl⟩
abbrev MJ15_toBytes : zM := (RJ15, cJ15_toBytes, 1, (some (.array .byte)), "toBytes", [])
noncomputable def F_J15_toBytes (a0 : Int32) (h : zSt) : Option ((Nat × Nat) × (Option Nat × zSt)) := zpay (1, 1) (zg (zfree h) (zlet (hN h) (fun o_4 => zlet (znA h 65 1) (fun h_2 => zka (hK h_2) o_4 65 (fun n_6 => zg (zin 0 n_6) (zg (decide (600 ≤ o_4)) (zlet (zsI h_2 (zu (hI h_2) o_4 0 (vp_nar .byte a0.toInt8.toInt32))) (fun h_10 => some ((0, 0), ((some o_4), h_10))))))))))
set_option maxHeartbeats 1000000 in
theorem C_J15_toBytes {l : Launch} {G : zGt} (htr : l.stackTraces = false) {a0 : Int32} {h : zSt} {cc : Nat × Nat} {r : Option Nat × zSt} (hF : F_J15_toBytes a0 h = some (cc, r)) : zMet l G yJ15_toBytes (ws_ yJ15_toBytes cJ15_toBytes 1 (some (.array .byte))) 0 0 (cc.1 + 0) (cc.2 + 0) [.int a0] (hK h) (jF h) (hI h) (hL h) (zQe (.inl (some (zrf r.1))) (hK r.2) (jF r.2) (hI r.2) (hL r.2)) := by
  refine zMet.of (by decide +kernel) htr (Nat.le_of_ble_eq_true rfl) ?_
  change zW l G MJ15_toBytes 0 0 (cc.1 + 0) (cc.2 + 0) 0 [(0, .int a0)] [] (hK h) (jF h) (hI h) (hL h) (zQe (.inl (some (zrf r.1))) (hK r.2) (jF r.2) (hI r.2) (hL r.2))
  unfold F_J15_toBytes at hF
  refine z_iconst (n := 1) (v := 1) dJ15_toBytes_0 rfl (by decide) ?_
  obtain ⟨cc, hF, hcc⟩ := zpay_some hF
  refine z_payE hcc ?_
  obtain ⟨hn_1, hF⟩ := zg_some hF
  obtain ⟨o_4, e_5, hF⟩ := zlet_ob hF
  obtain ⟨h_2, e_3, hF⟩ := zlet_ob hF
  refine z_newaT (t := 1) (n := 3) .byte dJ15_toBytes_1 rfl rfl (by decide) q247 (by decide) (by decide) (by decide) hn_1 e_5 e_3 ?_
  refine z_dup (n := 4) dJ15_toBytes_3 rfl rfl ?_
  refine z_iconst (n := 5) (v := 0) dJ15_toBytes_4 rfl (by decide) ?_
  refine z_iload_n (n := 6) dJ15_toBytes_5 rfl 0 rfl rfl ?_
  refine z_i2b (n := 7) dJ15_toBytes_6 rfl ?_
  obtain ⟨n_6, hk_7, hF⟩ := zka_some hF
  obtain ⟨h_8, hF⟩ := zg_some hF
  obtain ⟨hb_9, hF⟩ := zg_some hF
  obtain ⟨h_10, e_11, hF⟩ := zlet_ob hF
  refine z_bastK (n := 8) 0 (by decide) dJ15_toBytes_7 rfl hk_7 (zbig hb_9) (zin_ok h_8) rfl ?_
  refine z_toI e_11 ?_
  obtain ⟨rfl, rfl⟩ := zpair hF
  exact z_aret (r := (some o_4)) dJ15_toBytes_8 rfl (Or.inr ⟨_, rfl⟩) ⟨rfl, rfl, rfl, rfl, rfl⟩
abbrev MJ9_init_3 : zM := (RJ9, cJ9_init_3, 3, none, "<init>", [])
noncomputable def F_J9_init_3 (o0 : Nat) (a0 : Nat) (a1 : Int32) (h : zSt) : Option ((Nat × Nat) × (zSt)) := zka (hK h) o0 15 (fun n_1 => zg (decide (600 ≤ o0)) (zlet (zsF h (zu (jF h) o0 0 (some a0))) (fun h_4 => zka (hK h_4) o0 15 (fun n_6 => zg (zfitsB a1) (zlet (zsI h_4 (zu (hI h_4) o0 1 a1)) (fun h_9 => some ((0, 0), h_9)))))))
set_option maxHeartbeats 1000000 in
theorem C_J9_init_3 {l : Launch} {G : zGt} (htr : l.stackTraces = false) {o0 : Nat} {a0 : Nat} {a1 : Int32} {h : zSt} {cc : Nat × Nat} {r : zSt} (hF : F_J9_init_3 o0 a0 a1 h = some (cc, r)) : zMet l G yJ9_init_3 (ws_ yJ9_init_3 cJ9_init_3 3 none) 1 24 (cc.1 + 0) (cc.2 + 0) [.ref o0, .ref a0, .int a1] (hK h) (jF h) (hI h) (hL h) (zQe (.inl none) (hK r) (jF r) (hI r) (hL r)) := by
  refine zMet.of (by decide +kernel) htr (Nat.le_of_ble_eq_true rfl) ?_
  change zW l G MJ9_init_3 1 24 (cc.1 + 0) (cc.2 + 0) 0 [(0, .ref o0), (1, .ref a0), (2, .int a1)] [] (hK h) (jF h) (hI h) (hL h) (zQe (.inl none) (hK r) (jF r) (hI r) (hL r))
  unfold F_J9_init_3 at hF
  refine z_aload_n (n := 1) dJ9_init_3_0 rfl 0 rfl rfl ?_
  refine z_objInit (n := 4) dJ9_init_3_1 rfl q406 q151 q152 (by decide) (Nat.le_of_ble_eq_true rfl) ?_
  refine z_aload_n (n := 5) dJ9_init_3_4 rfl 0 rfl rfl ?_
  refine z_aload_n (n := 6) dJ9_init_3_5 rfl 1 rfl rfl ?_
  obtain ⟨n_1, hk_2, hF⟩ := zka_some hF
  obtain ⟨hb_3, hF⟩ := zg_some hF
  obtain ⟨h_4, e_5, hF⟩ := zlet_ob hF
  refine z_putR (r := (some a0)) (n := 9) dJ9_init_3_6 rfl zok15 fJ9_9_15 (Or.inr ⟨rfl, _, rfl, rfl, rfl⟩) rfl hk_2 (zbig hb_3) ?_
  refine z_toF e_5 ?_
  refine z_aload_n (n := 10) dJ9_init_3_9 rfl 0 rfl rfl ?_
  refine z_iload_n (n := 11) dJ9_init_3_10 rfl 2 rfl rfl ?_
  obtain ⟨n_6, hk_7, hF⟩ := zka_some hF
  obtain ⟨h_8, hF⟩ := zg_some hF
  obtain ⟨h_9, e_10, hF⟩ := zlet_ob hF
  refine z_putIE (n := 14) dJ9_init_3_11 rfl zok15 fJ9_15_15 (Or.inr ⟨rfl, _, rfl, rfl, rfl⟩) rfl (zfitsB_ok h_8) hk_7 (zbig hb_3) rfl ?_
  refine z_toI e_10 ?_
  obtain ⟨rfl, rfl⟩ := zpair hF
  exact z_vret dJ9_init_3_14 rfl ⟨rfl, rfl, rfl, rfl, rfl⟩
theorem hcee_J15_toBytes : zCee yJ15_toBytes RJ15 1 := ⟨rfl, by decide +kernel, by decide +kernel, by decide +kernel⟩
theorem hcee_J9_init_3 : zCee yJ9_init_3 RJ9 2 := ⟨rfl, by decide +kernel, by decide +kernel, by decide +kernel⟩
abbrev MJ9_valueOf : zM := (RJ9, cJ9_valueOf, 1, (some (.object "java/lang/String")), "valueOf", [])
noncomputable def F_J9_valueOf (a0 : Int32) (h : zSt) : Option ((Nat × Nat) × (Option Nat × zSt)) := if (1 : Int32) = 0 then zpay (1, 4) (zg (zfree h) (zlet (hN h) (fun o_4 => zlet (znA h 15 0) (fun h_2 => none)))) else zb1 (F_J15_canEncode (hK h) (jF h) a0 (hI h)) (fun x_7 => if x_7 = 0 then zpay (1, 4) (zg (zfree h) (zlet (hN h) (fun o_11 => zlet (znA h 15 0) (fun h_9 => none)))) else zpay (1, 4) (zg (zfree h) (zlet (hN h) (fun o_16 => zlet (znA h 15 0) (fun h_14 => zc1 (F_J15_toBytes a0 h_14) (fun c_21 => zn2 (fun q_19 h_20 => zpay c_21 (zb1 q_19 (fun o_23 => zc1 (F_J9_init_3 o_16 o_23 0 h_20) (fun c_27 h_26 => zpay c_27 (some ((0, 0), ((some o_16), h_26)))))))))))))
set_option maxHeartbeats 1000000 in
theorem C_J9_valueOf {l : Launch} {G : zGt} (htr : l.stackTraces = false) {a0 : Int32} {h : zSt} {cc : Nat × Nat} {r : Option Nat × zSt} (hF : F_J9_valueOf a0 h = some (cc, r)) : zMet l G yJ9_valueOf (ws_ yJ9_valueOf cJ9_valueOf 1 (some (.object "java/lang/String"))) 2 46 (cc.1 + 0) (cc.2 + 0) [.int a0] (hK h) (jF h) (hI h) (hL h) (zQe (.inl (some (zrf r.1))) (hK r.2) (jF r.2) (hI r.2) (hL r.2)) := by
  refine zMet.of (by decide +kernel) htr (Nat.le_of_ble_eq_true rfl) ?_
  change zW l G MJ9_valueOf 2 46 (cc.1 + 0) (cc.2 + 0) 0 [(0, .int a0)] [] (hK h) (jF h) (hI h) (hL h) (zQe (.inl (some (zrf r.1))) (hK r.2) (jF r.2) (hI r.2) (hL r.2))
  unfold F_J9_valueOf at hF
  refine z_gets (n := 3) (v := .int 1) dJ9_valueOf_0 rfl zst_String_COMPACT_STRINGS q334 (fun j h => by cases h) ?_
  refine z_if_eq (n := 6) (t := 26) dJ9_valueOf_3 rfl (by decide) (fun hc => ?_) (fun hc => ?_)
  · replace hF := (if_pos hc).symm.trans hF
    obtain ⟨cc, hF, hcc⟩ := zpay_some hF
    refine z_payE hcc ?_
    obtain ⟨hn_1, hF⟩ := zg_some hF
    obtain ⟨o_4, e_5, hF⟩ := zlet_ob hF
    obtain ⟨h_2, e_3, hF⟩ := zlet_ob hF
    refine z_newT (n := 29) dJ9_valueOf_26 rfl zok15 ⟨_, rfl, rfl, q399⟩ q1032 q116 hn_1 e_5 e_3 rfl ?_
    refine z_dup (n := 30) dJ9_valueOf_29 rfl rfl ?_
    refine z_iload_n (n := 31) dJ9_valueOf_30 rfl 0 rfl rfl ?_
    cases hF -- callee J10_toBytes
  · replace hF := (if_neg hc).symm.trans hF
    refine z_iload_n (n := 7) dJ9_valueOf_6 rfl 0 rfl rfl ?_
    obtain ⟨x_7, c_6, hF⟩ := zb1_some hF
    refine z_cS (n := 10) (mc2 := (cc.1 + 0)) (ms2 := (cc.2 + 0)) (st := []) (C_J15_canEncode htr c_6) dJ9_valueOf_7 rfl (lw_S q1031 q1001 q123 q1002) hcee_J15_canEncode rfl (by decide) rfl (Nat.le_of_ble_eq_true rfl) (Nat.le_refl _) (Nat.le_refl _) ?_
    refine z_if_eq (n := 13) (t := 26) dJ9_valueOf_10 rfl (by decide) (fun hc => ?_) (fun hc => ?_)
    · replace hF := (if_pos hc).symm.trans hF
      obtain ⟨cc, hF, hcc⟩ := zpay_some hF
      refine z_payE hcc ?_
      obtain ⟨hn_8, hF⟩ := zg_some hF
      obtain ⟨o_11, e_12, hF⟩ := zlet_ob hF
      obtain ⟨h_9, e_10, hF⟩ := zlet_ob hF
      refine z_newT (n := 29) dJ9_valueOf_26 rfl zok15 ⟨_, rfl, rfl, q399⟩ q1032 q116 hn_8 e_12 e_10 rfl ?_
      refine z_dup (n := 30) dJ9_valueOf_29 rfl rfl ?_
      refine z_iload_n (n := 31) dJ9_valueOf_30 rfl 0 rfl rfl ?_
      cases hF -- callee J10_toBytes
    · replace hF := (if_neg hc).symm.trans hF
      obtain ⟨cc, hF, hcc⟩ := zpay_some hF
      refine z_payE hcc ?_
      obtain ⟨hn_13, hF⟩ := zg_some hF
      obtain ⟨o_16, e_17, hF⟩ := zlet_ob hF
      obtain ⟨h_14, e_15, hF⟩ := zlet_ob hF
      refine z_newT (n := 16) dJ9_valueOf_13 rfl zok15 ⟨_, rfl, rfl, q399⟩ q1032 q116 hn_13 e_17 e_15 rfl ?_
      refine z_dup (n := 17) dJ9_valueOf_16 rfl rfl ?_
      refine z_iload_n (n := 18) dJ9_valueOf_17 rfl 0 rfl rfl ?_
      obtain ⟨c_21, t_22, c_18, hF⟩ := zc1_some hF
      obtain ⟨q_19, h_20⟩ := t_22
      dsimp only [zn2] at hF
      obtain ⟨cc, hF, hcc⟩ := zpay_some hF
      refine z_payE hcc ?_
      refine z_cS (n := 21) (mc2 := (cc.1 + 0)) (ms2 := (cc.2 + 0)) (st := [.ref o_16, .ref o_16]) (C_J15_toBytes htr c_18) dJ9_valueOf_18 rfl (lw_S q1033 q1034 q123 q1035) hcee_J15_toBytes rfl (by decide) rfl (Nat.le_of_ble_eq_true rfl) (Nat.le_of_eq (Nat.add_comm _ _)) (Nat.le_of_eq (Nat.add_comm _ _)) ?_
      obtain ⟨o_23, hr_24, hF⟩ := zb1_some hF
      rw [hr_24]
      refine z_iconst (n := 22) (v := 0) dJ9_valueOf_21 rfl (by decide) ?_
      obtain ⟨c_27, h_26, c_25, hF⟩ := zc1_some hF
      obtain ⟨cc, hF, hcc⟩ := zpay_some hF
      refine z_payE hcc ?_
      refine z_cI (n := 25) (mc2 := (cc.1 + 0)) (ms2 := (cc.2 + 0)) (st := [.ref o_16]) (C_J9_init_3 htr c_25) dJ9_valueOf_22 rfl q1038 q116 q1036 q1037 rfl hcee_J9_init_3 rfl (by decide) rfl (Nat.le_of_ble_eq_true rfl) (Nat.le_of_eq (Nat.add_comm _ _)) (Nat.le_of_eq (Nat.add_comm _ _)) ?_
      obtain ⟨rfl, rfl⟩ := zpair hF
      exact z_aret (r := (some o_16)) dJ9_valueOf_25 rfl (Or.inl ⟨_, rfl⟩) ⟨rfl, rfl, rfl, rfl, rfl⟩
abbrev MJ15_equals : zM := (RJ15, cJ15_equals, 3, (some .boolean), "equals", [])
noncomputable def F_J15_equals_L9 (K : zKd) (a0 : Nat) (a1 : Nat) (I : zId) (v2_5 : Int32) : Option ((Int32) ⊕ ((Unit) ⊕ (Int32))) := zka K a0 65 (fun n_6 => if (nI n_6) ≤ v2_5 then some (.inr (.inl ())) else zg (zin v2_5 n_6) (zka K a1 65 (fun n_9 => zg (zin v2_5 n_9) (if (I a0 v2_5.toNatClampNeg) = (I a1 v2_5.toNatClampNeg) then zlet (v2_5 + 1) (fun v2_12 => some (.inl v2_12)) else some (.inr (.inr 0))))))
noncomputable def F_J15_equals (K : zKd) (F : zFd) (a0 : Nat) (a1 : Nat) (I : zId) : Option (Int32) := zka K a0 65 (fun n_1 => zka K a1 65 (fun n_3 => if ¬ (nI n_1) = (nI n_3) then some 0 else zs1 (zloop (fun s : Int32 => F_J15_equals_L9 K a0 a1 I s) 0) (fun u_14 => some 1) (fun z_16 => some z_16)))
set_option maxHeartbeats 1000000 in
theorem W_J15_equals_L9 {l : Launch} {G : zGt} (htr : l.stackTraces = false) {K : zKd} {F : zFd} {L : zLd} {Q : zQt} {a0 : Nat} {a1 : Nat} {I : zId} {v2_5 : Int32} {r : (Int32) ⊕ ((Unit) ⊕ (Int32))} (hF : F_J15_equals_L9 K a0 a1 I v2_5 = some r) (kl : ∀ (z0 : Int32), r = .inl z0 → zW l G MJ15_equals 0 0 0 0 9 [(0, .ref a0), (1, .ref a1), (2, .int z0)] [] K F I L Q) (kx : ∀ (y0 : Unit), r = .inr (.inl y0) → zW l G MJ15_equals 0 0 0 0 32 [] [] K F I L Q) (kq : ∀ z : Int32, r = .inr (.inr z) → Q (.inl (some (.int z))) K F I L) : zW l G MJ15_equals 0 0 0 0 9 [(0, .ref a0), (1, .ref a1), (2, .int v2_5)] [] K F I L Q := by
  unfold F_J15_equals_L9 at hF
  refine z_iload_n (n := 10) dJ15_equals_9 rfl 2 rfl rfl ?_
  refine z_aload_n (n := 11) dJ15_equals_10 rfl 0 rfl rfl ?_
  obtain ⟨n_6, hk_7, hF⟩ := zka_some hF
  refine z_alen (n := 12) 1 (by decide) dJ15_equals_11 rfl hk_7 ?_
  refine z_icmp_ge (n := 15) (t := 32) dJ15_equals_12 rfl (by decide) (fun hc => ?_) (fun hc => ?_)
  · replace hF := (if_pos hc).symm.trans hF
    refine z_sub [] rfl ?_
    have hF := Option.some.inj hF; subst hF
    exact kx () rfl
  · replace hF := (if_neg hc).symm.trans hF
    refine z_aload_n (n := 16) dJ15_equals_15 rfl 0 rfl rfl ?_
    refine z_iload_n (n := 17) dJ15_equals_16 rfl 2 rfl rfl ?_
    obtain ⟨h_8, hF⟩ := zg_some hF
    refine z_baldK (n := 18) v2_5.toNatClampNeg rfl dJ15_equals_17 rfl hk_7 (zin_ok h_8) ?_
    refine z_aload_n (n := 19) dJ15_equals_18 rfl 1 rfl rfl ?_
    refine z_iload_n (n := 20) dJ15_equals_19 rfl 2 rfl rfl ?_
    obtain ⟨n_9, hk_10, hF⟩ := zka_some hF
    obtain ⟨h_11, hF⟩ := zg_some hF
    refine z_baldK (n := 21) v2_5.toNatClampNeg rfl dJ15_equals_20 rfl hk_10 (zin_ok h_11) ?_
    refine z_icmp_eq (n := 24) (t := 26) dJ15_equals_21 rfl (by decide) (fun hc => ?_) (fun hc => ?_)
    · replace hF := (if_pos hc).symm.trans hF
      obtain ⟨v2_12, e_13, hF⟩ := zlet_ob hF
      refine z_iincE (n := 29) (w := 1) (v := v2_12) (lv' := [(2, .int v2_12), (0, .ref a0), (1, .ref a1)]) dJ15_equals_26 rfl 2 rfl (by decide) e_13 (by decide) rfl ?_
      refine z_goto (t := 9) dJ15_equals_29 (by decide) ?_
      refine z_sub [1, 2, 0] rfl ?_
      have hF := Option.some.inj hF; subst hF
      exact kl v2_12 rfl
    · replace hF := (if_neg hc).symm.trans hF
      refine z_iconst (n := 25) (v := 0) dJ15_equals_24 rfl (by decide) ?_
      have hF := Option.some.inj hF; subst hF
      exact z_iret dJ15_equals_25 rfl rfl (kq _ rfl)
set_option maxHeartbeats 1000000 in
theorem C_J15_equals {l : Launch} {G : zGt} (htr : l.stackTraces = false) {K : zKd} {F : zFd} {L : zLd} {a0 : Nat} {a1 : Nat} {I : zId} {r : Int32} (hF : F_J15_equals K F a0 a1 I = some r) : zMet l G yJ15_equals (ws_ yJ15_equals cJ15_equals 3 (some .boolean)) 0 0 0 0 [.ref a0, .ref a1] K F I L (zQe (.inl (some (.int r))) K F I L) := by
  refine zMet.of (by decide +kernel) htr (Nat.le_of_ble_eq_true rfl) ?_
  change zW l G MJ15_equals 0 0 0 0 0 [(0, .ref a0), (1, .ref a1)] [] K F I L (zQe (.inl (some (.int r))) K F I L)
  unfold F_J15_equals at hF
  refine z_aload_n (n := 1) dJ15_equals_0 rfl 0 rfl rfl ?_
  obtain ⟨n_1, hk_2, hF⟩ := zka_some hF
  refine z_alen (n := 2) 1 (by decide) dJ15_equals_1 rfl hk_2 ?_
  refine z_aload_n (n := 3) dJ15_equals_2 rfl 1 rfl rfl ?_
  obtain ⟨n_3, hk_4, hF⟩ := zka_some hF
  refine z_alen (n := 4) 1 (by decide) dJ15_equals_3 rfl hk_4 ?_
  refine z_icmp_ne (n := 7) (t := 34) dJ15_equals_4 rfl (by decide) (fun hc => ?_) (fun hc => ?_)
  · replace hF := (if_pos hc).symm.trans hF
    refine z_iconst (n := 35) (v := 0) dJ15_equals_34 rfl (by decide) ?_
    have hF := Option.some.inj hF; subst hF
    exact z_iret dJ15_equals_35 rfl rfl ⟨rfl, rfl, rfl, rfl, rfl⟩
  · replace hF := (if_neg hc).symm.trans hF
    refine z_iconst (n := 8) (v := 0) dJ15_equals_7 rfl (by decide) ?_
    refine z_istore_nE (n := 9) (lv' := [(2, .int 0), (0, .ref a0), (1, .ref a1)]) dJ15_equals_8 rfl rfl rfl (by decide) rfl ?_
    refine z_sub [1, 2, 0] rfl ?_
    rcases zs1_some hF with ⟨t_17, e_15, hF⟩ | ⟨t_17, e_15, hF⟩
    · skip
      obtain ⟨u_14, rfl⟩ : ∃ z, z = t_17 := ⟨_, rfl⟩
      have H_18 : zW l G MJ15_equals 0 0 0 0 32 [] [] K F I L (zQe (.inl (some (.int r))) K F I L) := by
        refine z_iconst (n := 33) (v := 1) dJ15_equals_32 rfl (by decide) ?_
        have hF := Option.some.inj hF; subst hF
        exact z_iret dJ15_equals_33 rfl rfl ⟨rfl, rfl, rfl, rfl, rfl⟩
      refine zloop_ind (P := fun s : Int32 => zW l G MJ15_equals 0 0 0 0 9 [(0, .ref a0), (1, .ref a1), (2, .int s)] [] K F I L (zQe (.inl (some (.int r))) K F I L)) (fun s r hb kl kr => ?_) e_15
      exact W_J15_equals_L9 (a0 := a0) (a1 := a1) htr hb (fun z0 e => kl _ e) (fun y0 e => by cases kr _ e; exact H_18) (fun z e => by cases kr _ e)
    · skip
      have hq := Option.some.inj hF
      refine zloop_ind (P := fun s : Int32 => zW l G MJ15_equals 0 0 0 0 9 [(0, .ref a0), (1, .ref a1), (2, .int s)] [] K F I L (zQe (.inl (some (.int r))) K F I L)) (fun s r hb kl kr => ?_) e_15
      exact W_J15_equals_L9 (a0 := a0) (a1 := a1) htr hb (fun z0 e => kl _ e) (fun y0 e => by cases kr _ e) (fun z e => by cases kr _ e; subst hq; exact ⟨rfl, rfl, rfl, rfl, rfl⟩)
theorem hcee_J15_equals : zCee yJ15_equals RJ15 2 := ⟨rfl, by decide +kernel, by decide +kernel, by decide +kernel⟩
abbrev MJ9_equals : zM := (RJ9, cJ9_equals, 3, (some .boolean), "equals", [])
noncomputable def F_J9_equals (K : zKd) (F : zFd) (o0 : Nat) (a0 : Nat) (I : zId) : Option (Int32) := zg (zcmpok (some o0) (some a0)) (if ¬ (some o0) = (some a0) then zka K a0 15 (fun n_2 => if (1 : Int32) = 0 then some 0 else if (1 : Int32) = 0 then zka K o0 15 (fun n_4 => zb1 (F o0 0) (fun o_6 => zb1 (F a0 0) (fun o_8 => zb1 (F_J15_equals K F o_6 o_8 I) (fun x_11 => if x_11 = 0 then some 0 else some 1)))) else zka K o0 15 (fun n_12 => if ¬ (I o0 1) = (I a0 1) then some 0 else zb1 (F o0 0) (fun o_14 => zb1 (F a0 0) (fun o_16 => zb1 (F_J15_equals K F o_14 o_16 I) (fun x_19 => if x_19 = 0 then some 0 else some 1))))) else some 1)
set_option maxHeartbeats 1000000 in
theorem C_J9_equals {l : Launch} {G : zGt} (htr : l.stackTraces = false) {K : zKd} {F : zFd} {L : zLd} {o0 : Nat} {a0 : Nat} {I : zId} {r : Int32} (hF : F_J9_equals K F o0 a0 I = some r) : zMet l G yJ9_equals (ws_ yJ9_equals cJ9_equals 3 (some .boolean)) 1 22 0 0 [.ref o0, .ref a0] K F I L (zQe (.inl (some (.int r))) K F I L) := by
  refine zMet.of (by decide +kernel) htr (Nat.le_of_ble_eq_true rfl) ?_
  change zW l G MJ9_equals 1 22 0 0 0 [(0, .ref o0), (1, .ref a0)] [] K F I L (zQe (.inl (some (.int r))) K F I L)
  unfold F_J9_equals at hF
  refine z_aload_n (n := 1) dJ9_equals_0 rfl 0 rfl rfl ?_
  refine z_aload_n (n := 2) dJ9_equals_1 rfl 1 rfl rfl ?_
  obtain ⟨hz_1, hF⟩ := zg_some hF
  refine z_acmp_ne (r1 := (some o0)) (r2 := (some a0)) (n := 5) (t := 7) dJ9_equals_2 rfl (by decide) (zcmpok_ok hz_1) (fun hc => ?_) (fun hc => ?_)
  · replace hF := (if_pos hc).symm.trans hF
    refine z_aload_n (n := 8) dJ9_equals_7 rfl 1 rfl rfl ?_
    obtain ⟨n_2, hk_3, hF⟩ := zka_some hF
    refine z_instS (n := 11) dJ9_equals_8 rfl hk_3 rfl q1032 rfl ?_
    refine z_if_eq (n := 14) (t := 54) dJ9_equals_11 rfl (by decide) (fun hc => ?_) (fun hc => ?_)
    · replace hF := (if_pos hc).symm.trans hF
      refine z_iconst (n := 55) (v := 0) dJ9_equals_54 rfl (by decide) ?_
      have hF := Option.some.inj hF; subst hF
      exact z_iret dJ9_equals_55 rfl rfl ⟨rfl, rfl, rfl, rfl, rfl⟩
    · replace hF := (if_neg hc).symm.trans hF
      refine z_aload_n (n := 15) dJ9_equals_14 rfl 1 rfl rfl ?_
      refine z_castS (n := 18) dJ9_equals_15 rfl hk_3 rfl q1032 rfl ?_
      refine z_astore_nS (n := 19) (lv' := [(2, .ref a0), (0, .ref o0), (1, .ref a0)]) dJ9_equals_18 rfl rfl (by decide) rfl ?_
      refine z_gets (n := 22) (v := .int 1) dJ9_equals_19 rfl zst_String_COMPACT_STRINGS q334 (fun j h => by cases h) ?_
      refine z_if_eq (n := 25) (t := 36) dJ9_equals_22 rfl (by decide) (fun hc => ?_) (fun hc => ?_)
      · replace hF := (if_pos hc).symm.trans hF
        refine z_aload_n (n := 37) dJ9_equals_36 rfl 1 rfl rfl ?_
        obtain ⟨n_4, hk_5, hF⟩ := zka_some hF
        obtain ⟨o_6, hr_7, hF⟩ := zb1_some hF
        refine z_getRS (n := 40) dJ9_equals_37 rfl zok15 fJ9_9_15 rfl hk_5 (Or.inr rfl) hr_7 ?_
        refine z_aload_n (n := 41) dJ9_equals_40 rfl 0 rfl rfl ?_
        obtain ⟨o_8, hr_9, hF⟩ := zb1_some hF
        refine z_getRS (n := 44) dJ9_equals_41 rfl zok15 fJ9_9_15 rfl hk_3 (Or.inr rfl) hr_9 ?_
        obtain ⟨x_11, c_10, hF⟩ := zb1_some hF
        refine z_cS (n := 47) (st := []) (C_J15_equals htr c_10) dJ9_equals_44 rfl (lw_S q1086 q1087 q123 q1088) hcee_J15_equals rfl (by decide) rfl (Nat.le_of_ble_eq_true rfl) (Nat.le_refl _) (Nat.le_refl _) ?_
        refine z_if_eq (n := 50) (t := 54) dJ9_equals_47 rfl (by decide) (fun hc => ?_) (fun hc => ?_)
        · replace hF := (if_pos hc).symm.trans hF
          refine z_iconst (n := 55) (v := 0) dJ9_equals_54 rfl (by decide) ?_
          have hF := Option.some.inj hF; subst hF
          exact z_iret dJ9_equals_55 rfl rfl ⟨rfl, rfl, rfl, rfl, rfl⟩
        · replace hF := (if_neg hc).symm.trans hF
          refine z_iconst (n := 51) (v := 1) dJ9_equals_50 rfl (by decide) ?_
          refine z_goto (t := 55) dJ9_equals_51 (by decide) ?_
          have hF := Option.some.inj hF; subst hF
          exact z_iret dJ9_equals_55 rfl rfl ⟨rfl, rfl, rfl, rfl, rfl⟩
      · replace hF := (if_neg hc).symm.trans hF
        refine z_aload_n (n := 26) dJ9_equals_25 rfl 1 rfl rfl ?_
        obtain ⟨n_12, hk_13, hF⟩ := zka_some hF
        refine z_getI (n := 29) dJ9_equals_26 rfl zok15 fJ9_15_15 rfl hk_13 (Or.inr rfl) ?_
        refine z_aload_n (n := 30) dJ9_equals_29 rfl 0 rfl rfl ?_
        refine z_getI (n := 33) dJ9_equals_30 rfl zok15 fJ9_15_15 rfl hk_3 (Or.inr rfl) ?_
        refine z_icmp_ne (n := 36) (t := 54) dJ9_equals_33 rfl (by decide) (fun hc => ?_) (fun hc => ?_)
        · replace hF := (if_pos hc).symm.trans hF
          refine z_iconst (n := 55) (v := 0) dJ9_equals_54 rfl (by decide) ?_
          have hF := Option.some.inj hF; subst hF
          exact z_iret dJ9_equals_55 rfl rfl ⟨rfl, rfl, rfl, rfl, rfl⟩
        · replace hF := (if_neg hc).symm.trans hF
          refine z_aload_n (n := 37) dJ9_equals_36 rfl 1 rfl rfl ?_
          obtain ⟨o_14, hr_15, hF⟩ := zb1_some hF
          refine z_getRS (n := 40) dJ9_equals_37 rfl zok15 fJ9_9_15 rfl hk_13 (Or.inr rfl) hr_15 ?_
          refine z_aload_n (n := 41) dJ9_equals_40 rfl 0 rfl rfl ?_
          obtain ⟨o_16, hr_17, hF⟩ := zb1_some hF
          refine z_getRS (n := 44) dJ9_equals_41 rfl zok15 fJ9_9_15 rfl hk_3 (Or.inr rfl) hr_17 ?_
          obtain ⟨x_19, c_18, hF⟩ := zb1_some hF
          refine z_cS (n := 47) (st := []) (C_J15_equals htr c_18) dJ9_equals_44 rfl (lw_S q1086 q1087 q123 q1088) hcee_J15_equals rfl (by decide) rfl (Nat.le_of_ble_eq_true rfl) (Nat.le_refl _) (Nat.le_refl _) ?_
          refine z_if_eq (n := 50) (t := 54) dJ9_equals_47 rfl (by decide) (fun hc => ?_) (fun hc => ?_)
          · replace hF := (if_pos hc).symm.trans hF
            refine z_iconst (n := 55) (v := 0) dJ9_equals_54 rfl (by decide) ?_
            have hF := Option.some.inj hF; subst hF
            exact z_iret dJ9_equals_55 rfl rfl ⟨rfl, rfl, rfl, rfl, rfl⟩
          · replace hF := (if_neg hc).symm.trans hF
            refine z_iconst (n := 51) (v := 1) dJ9_equals_50 rfl (by decide) ?_
            refine z_goto (t := 55) dJ9_equals_51 (by decide) ?_
            have hF := Option.some.inj hF; subst hF
            exact z_iret dJ9_equals_55 rfl rfl ⟨rfl, rfl, rfl, rfl, rfl⟩
  · replace hF := (if_neg (not_not_intro hc)).symm.trans hF
    refine z_iconst (n := 6) (v := 1) dJ9_equals_5 rfl (by decide) ?_
    have hF := Option.some.inj hF; subst hF
    exact z_iret dJ9_equals_6 rfl rfl ⟨rfl, rfl, rfl, rfl, rfl⟩
abbrev MJ9_coder : zM := (RJ9, cJ9_coder, 1, (some .byte), "coder", [])
noncomputable def F_J9_coder (K : zKd) (F : zFd) (o0 : Nat) (I : zId) : Option (Int32) := if (1 : Int32) = 0 then some 1 else zka K o0 15 (fun n_1 => zg (zfitsB (I o0 1)) (some (I o0 1)))
set_option maxHeartbeats 1000000 in
theorem C_J9_coder {l : Launch} {G : zGt} (htr : l.stackTraces = false) {K : zKd} {F : zFd} {L : zLd} {o0 : Nat} {I : zId} {r : Int32} (hF : F_J9_coder K F o0 I = some r) : zMet l G yJ9_coder (ws_ yJ9_coder cJ9_coder 1 (some .byte)) 0 0 0 0 [.ref o0] K F I L (zQe (.inl (some (.int r))) K F I L) := by
  refine zMet.of (by decide +kernel) htr (Nat.le_of_ble_eq_true rfl) ?_
  change zW l G MJ9_coder 0 0 0 0 0 [(0, .ref o0)] [] K F I L (zQe (.inl (some (.int r))) K F I L)
  unfold F_J9_coder at hF
  refine z_gets (n := 3) (v := .int 1) dJ9_coder_0 rfl zst_String_COMPACT_STRINGS q334 (fun j h => by cases h) ?_
  refine z_if_eq (n := 6) (t := 13) dJ9_coder_3 rfl (by decide) (fun hc => ?_) (fun hc => ?_)
  · replace hF := (if_pos hc).symm.trans hF
    refine z_iconst (n := 14) (v := 1) dJ9_coder_13 rfl (by decide) ?_
    have hF := Option.some.inj hF; subst hF
    exact z_iret dJ9_coder_14 rfl rfl ⟨rfl, rfl, rfl, rfl, rfl⟩
  · replace hF := (if_neg hc).symm.trans hF
    refine z_aload_n (n := 7) dJ9_coder_6 rfl 0 rfl rfl ?_
    obtain ⟨n_1, hk_2, hF⟩ := zka_some hF
    refine z_getI (n := 10) dJ9_coder_7 rfl zok15 fJ9_15_15 rfl hk_2 (Or.inr rfl) ?_
    refine z_goto (t := 14) dJ9_coder_10 (by decide) ?_
    obtain ⟨h_3, hF⟩ := zg_some hF
    have hF := Option.some.inj hF; subst hF
    exact z_iret dJ9_coder_14 rfl (zfitsB_ok h_3).1 ⟨rfl, rfl, rfl, rfl, rfl⟩
theorem hcee_J9_coder : zCee yJ9_coder RJ9 0 := ⟨rfl, by decide +kernel, by decide +kernel, by decide +kernel⟩
abbrev MJ9_length : zM := (RJ9, cJ9_length, 1, (some .int), "length", [])
noncomputable def F_J9_length (K : zKd) (F : zFd) (o0 : Nat) (I : zId) : Option (Int32) := zka K o0 15 (fun n_1 => zb1 (F o0 0) (fun o_3 => zka K o_3 65 (fun n_5 => zb1 (F_J9_coder K F o0 I) (fun x_8 => some ((nI n_5) >>> (x_8 &&& (31 : Int32)))))))
set_option maxHeartbeats 1000000 in
theorem C_J9_length {l : Launch} {G : zGt} (htr : l.stackTraces = false) {K : zKd} {F : zFd} {L : zLd} {o0 : Nat} {I : zId} {r : Int32} (hF : F_J9_length K F o0 I = some r) : zMet l G yJ9_length (ws_ yJ9_length cJ9_length 1 (some .int)) 1 20 0 0 [.ref o0] K F I L (zQe (.inl (some (.int r))) K F I L) := by
  refine zMet.of (by decide +kernel) htr (Nat.le_of_ble_eq_true rfl) ?_
  change zW l G MJ9_length 1 20 0 0 0 [(0, .ref o0)] [] K F I L (zQe (.inl (some (.int r))) K F I L)
  unfold F_J9_length at hF
  refine z_aload_n (n := 1) dJ9_length_0 rfl 0 rfl rfl ?_
  obtain ⟨n_1, hk_2, hF⟩ := zka_some hF
  obtain ⟨o_3, hr_4, hF⟩ := zb1_some hF
  refine z_getRS (n := 4) dJ9_length_1 rfl zok15 fJ9_9_15 rfl hk_2 (Or.inr rfl) hr_4 ?_
  obtain ⟨n_5, hk_6, hF⟩ := zka_some hF
  refine z_alen (n := 5) 1 (by decide) dJ9_length_4 rfl hk_6 ?_
  refine z_aload_n (n := 6) dJ9_length_5 rfl 0 rfl rfl ?_
  obtain ⟨x_8, c_7, hF⟩ := zb1_some hF
  refine z_cV (n := 9) (st := [.int (nI n_5)]) (C_J9_coder htr c_7) dJ9_length_6 rfl (lw_V q330 q331 q332 q116 q333) hcee_J9_coder rfl (by decide) hk_2 rfl rfl rfl (Nat.le_of_ble_eq_true rfl) (Nat.le_refl _) (Nat.le_refl _) ?_
  refine z_ishr (n := 10) dJ9_length_9 rfl ?_
  have hF := Option.some.inj hF; subst hF
  exact z_iret dJ9_length_10 rfl rfl ⟨rfl, rfl, rfl, rfl, rfl⟩
abbrev MJ9_isLatin1 : zM := (RJ9, cJ9_isLatin1, 1, (some .boolean), "isLatin1", [])
noncomputable def F_J9_isLatin1 (K : zKd) (F : zFd) (o0 : Nat) (I : zId) : Option (Int32) := if (1 : Int32) = 0 then some 0 else zka K o0 15 (fun n_1 => if ¬ (I o0 1) = 0 then some 0 else some 1)
set_option maxHeartbeats 1000000 in
theorem C_J9_isLatin1 {l : Launch} {G : zGt} (htr : l.stackTraces = false) {K : zKd} {F : zFd} {L : zLd} {o0 : Nat} {I : zId} {r : Int32} (hF : F_J9_isLatin1 K F o0 I = some r) : zMet l G yJ9_isLatin1 (ws_ yJ9_isLatin1 cJ9_isLatin1 1 (some .boolean)) 0 0 0 0 [.ref o0] K F I L (zQe (.inl (some (.int r))) K F I L) := by
  refine zMet.of (by decide +kernel) htr (Nat.le_of_ble_eq_true rfl) ?_
  change zW l G MJ9_isLatin1 0 0 0 0 0 [(0, .ref o0)] [] K F I L (zQe (.inl (some (.int r))) K F I L)
  unfold F_J9_isLatin1 at hF
  refine z_gets (n := 3) (v := .int 1) dJ9_isLatin1_0 rfl zst_String_COMPACT_STRINGS q334 (fun j h => by cases h) ?_
  refine z_if_eq (n := 6) (t := 17) dJ9_isLatin1_3 rfl (by decide) (fun hc => ?_) (fun hc => ?_)
  · replace hF := (if_pos hc).symm.trans hF
    refine z_iconst (n := 18) (v := 0) dJ9_isLatin1_17 rfl (by decide) ?_
    have hF := Option.some.inj hF; subst hF
    exact z_iret dJ9_isLatin1_18 rfl rfl ⟨rfl, rfl, rfl, rfl, rfl⟩
  · replace hF := (if_neg hc).symm.trans hF
    refine z_aload_n (n := 7) dJ9_isLatin1_6 rfl 0 rfl rfl ?_
    obtain ⟨n_1, hk_2, hF⟩ := zka_some hF
    refine z_getI (n := 10) dJ9_isLatin1_7 rfl zok15 fJ9_15_15 rfl hk_2 (Or.inr rfl) ?_
    refine z_if_ne (n := 13) (t := 17) dJ9_isLatin1_10 rfl (by decide) (fun hc => ?_) (fun hc => ?_)
    · replace hF := (if_pos hc).symm.trans hF
      refine z_iconst (n := 18) (v := 0) dJ9_isLatin1_17 rfl (by decide) ?_
      have hF := Option.some.inj hF; subst hF
      exact z_iret dJ9_isLatin1_18 rfl rfl ⟨rfl, rfl, rfl, rfl, rfl⟩
    · replace hF := (if_neg hc).symm.trans hF
      refine z_iconst (n := 14) (v := 1) dJ9_isLatin1_13 rfl (by decide) ?_
      refine z_goto (t := 18) dJ9_isLatin1_14 (by decide) ?_
      have hF := Option.some.inj hF; subst hF
      exact z_iret dJ9_isLatin1_18 rfl rfl ⟨rfl, rfl, rfl, rfl, rfl⟩
abbrev MJ9_checkIndex : zM := (RJ9, cJ9_checkIndex, 2, none, "checkIndex", [])
noncomputable def F_J9_checkIndex (K : zKd) (F : zFd) (a0 : Int32) (a1 : Int32) (I : zId) : Option (Unit) := zg (K 26).isSome (zb1 (F_J14_checkIndex K F a0 a1 (F 26 2) I) (fun x_3 => some ()))
set_option maxHeartbeats 1000000 in
theorem C_J9_checkIndex {l : Launch} {G : zGt} (htr : l.stackTraces = false) {K : zKd} {F : zFd} {L : zLd} {a0 : Int32} {a1 : Int32} {I : zId} {r : Unit} (hF : F_J9_checkIndex K F a0 a1 I = some r) : zMet l G yJ9_checkIndex (ws_ yJ9_checkIndex cJ9_checkIndex 2 none) 1 22 0 0 [.int a0, .int a1] K F I L (zQe (.inl none) K F I L) := by
  refine zMet.of (by decide +kernel) htr (Nat.le_of_ble_eq_true rfl) ?_
  change zW l G MJ9_checkIndex 1 22 0 0 0 [(0, .int a0), (1, .int a1)] [] K F I L (zQe (.inl none) K F I L)
  unfold F_J9_checkIndex at hF
  refine z_iload_n (n := 1) dJ9_checkIndex_0 rfl 0 rfl rfl ?_
  refine z_iload_n (n := 2) dJ9_checkIndex_1 rfl 1 rfl rfl ?_
  obtain ⟨hk_1, hF⟩ := zg_some hF
  refine z_getsR (n := 5) (k := 2) dJ9_checkIndex_2 rfl (List.mem_of_getElem? (i := 2) rfl) q312 (zsome hk_1) ?_
  obtain ⟨x_3, c_2, hF⟩ := zb1_some hF
  refine z_cS (n := 8) (st := []) (C_J14_checkIndex htr c_2) dJ9_checkIndex_5 rfl (lw_S q1012 q805 q122 q806) hcee_J14_checkIndex rfl (by decide) rfl (Nat.le_of_ble_eq_true rfl) (Nat.le_refl _) (Nat.le_refl _) ?_
  refine z_pop (n := 9) dJ9_checkIndex_8 rfl rfl ?_
  have hF := Option.some.inj hF; subst hF
  exact z_vret dJ9_checkIndex_9 rfl ⟨rfl, rfl, rfl, rfl, rfl⟩
theorem hcee_J9_checkIndex : zCee yJ9_checkIndex RJ9 2 := ⟨rfl, by decide +kernel, by decide +kernel, by decide +kernel⟩
abbrev MJ15_charAt : zM := (RJ15, cJ15_charAt, 2, (some .char), "charAt", [])
noncomputable def F_J15_charAt (K : zKd) (F : zFd) (a0 : Nat) (a1 : Int32) (I : zId) : Option (Int32) := zka K a0 65 (fun n_1 => zb1 (F_J9_checkIndex K F a1 (nI n_1) I) (fun _ => zg (zin a1 n_1) (zg (zfitsC ((((I a0 a1.toNatClampNeg) &&& (255 : Int32)).toUInt32 % 65536).toInt32)) (some ((((I a0 a1.toNatClampNeg) &&& (255 : Int32)).toUInt32 % 65536).toInt32)))))
set_option maxHeartbeats 1000000 in
theorem C_J15_charAt {l : Launch} {G : zGt} (htr : l.stackTraces = false) {K : zKd} {F : zFd} {L : zLd} {a0 : Nat} {a1 : Int32} {I : zId} {r : Int32} (hF : F_J15_charAt K F a0 a1 I = some r) : zMet l G yJ15_charAt (ws_ yJ15_charAt cJ15_charAt 2 (some .char)) 2 43 0 0 [.ref a0, .int a1] K F I L (zQe (.inl (some (.int r))) K F I L) := by
  refine zMet.of (by decide +kernel) htr (Nat.le_of_ble_eq_true rfl) ?_
  change zW l G MJ15_charAt 2 43 0 0 0 [(0, .ref a0), (1, .int a1)] [] K F I L (zQe (.inl (some (.int r))) K F I L)
  unfold F_J15_charAt at hF
  refine z_iload_n (n := 1) dJ15_charAt_0 rfl 1 rfl rfl ?_
  refine z_aload_n (n := 2) dJ15_charAt_1 rfl 0 rfl rfl ?_
  obtain ⟨n_1, hk_2, hF⟩ := zka_some hF
  refine z_alen (n := 3) 1 (by decide) dJ15_charAt_2 rfl hk_2 ?_
  obtain ⟨_, c_3, hF⟩ := zb1_some hF
  refine z_cS (n := 6) (st := []) (C_J9_checkIndex htr c_3) dJ15_charAt_3 rfl (lw_S q1305 q1010 q116 q1011) hcee_J9_checkIndex rfl (by decide) rfl (Nat.le_of_ble_eq_true rfl) (Nat.le_refl _) (Nat.le_refl _) ?_
  refine z_aload_n (n := 7) dJ15_charAt_6 rfl 0 rfl rfl ?_
  refine z_iload_n (n := 8) dJ15_charAt_7 rfl 1 rfl rfl ?_
  obtain ⟨h_4, hF⟩ := zg_some hF
  refine z_baldK (n := 9) a1.toNatClampNeg rfl dJ15_charAt_8 rfl hk_2 (zin_ok h_4) ?_
  refine z_sipush (n := 12) (v := 255) dJ15_charAt_9 rfl (by decide) ?_
  refine z_iand (n := 13) dJ15_charAt_12 rfl ?_
  refine z_i2c (n := 14) dJ15_charAt_13 rfl ?_
  obtain ⟨h_5, hF⟩ := zg_some hF
  have hF := Option.some.inj hF; subst hF
  exact z_iret dJ15_charAt_14 rfl (zfitsC_ok h_5).1 ⟨rfl, rfl, rfl, rfl, rfl⟩
theorem hcee_J15_charAt : zCee yJ15_charAt RJ15 2 := ⟨rfl, by decide +kernel, by decide +kernel, by decide +kernel⟩
theorem hcee_J9_isLatin1 : zCee yJ9_isLatin1 RJ9 0 := ⟨rfl, by decide +kernel, by decide +kernel, by decide +kernel⟩
abbrev MJ9_charAt : zM := (RJ9, cJ9_charAt, 2, (some .char), "charAt", [])
noncomputable def F_J9_charAt (K : zKd) (F : zFd) (o0 : Nat) (a0 : Int32) (I : zId) : Option (Int32) := zka K o0 15 (fun n_1 => zb1 (F_J9_isLatin1 K F o0 I) (fun x_4 => if x_4 = 0 then zb1 (F o0 0) (fun o_5 => none) else zb1 (F o0 0) (fun o_7 => zb1 (F_J15_charAt K F o_7 a0 I) (fun x_10 => zg (zfitsC x_10) (some x_10)))))
set_option maxHeartbeats 1000000 in
theorem C_J9_charAt {l : Launch} {G : zGt} (htr : l.stackTraces = false) {K : zKd} {F : zFd} {L : zLd} {o0 : Nat} {a0 : Int32} {I : zId} {r : Int32} (hF : F_J9_charAt K F o0 a0 I = some r) : zMet l G yJ9_charAt (ws_ yJ9_charAt cJ9_charAt 2 (some .char)) 3 64 0 0 [.ref o0, .int a0] K F I L (zQe (.inl (some (.int r))) K F I L) := by
  refine zMet.of (by decide +kernel) htr (Nat.le_of_ble_eq_true rfl) ?_
  change zW l G MJ9_charAt 3 64 0 0 0 [(0, .ref o0), (1, .int a0)] [] K F I L (zQe (.inl (some (.int r))) K F I L)
  unfold F_J9_charAt at hF
  refine z_aload_n (n := 1) dJ9_charAt_0 rfl 0 rfl rfl ?_
  obtain ⟨n_1, hk_2, hF⟩ := zka_some hF
  obtain ⟨x_4, c_3, hF⟩ := zb1_some hF
  refine z_cV (n := 4) (st := []) (C_J9_isLatin1 htr c_3) dJ9_charAt_1 rfl (lw_V q1298 q1299 q1300 q116 q1301) hcee_J9_isLatin1 rfl (by decide) hk_2 rfl rfl rfl (Nat.le_of_ble_eq_true rfl) (Nat.le_refl _) (Nat.le_refl _) ?_
  refine z_if_eq (n := 7) (t := 16) dJ9_charAt_4 rfl (by decide) (fun hc => ?_) (fun hc => ?_)
  · replace hF := (if_pos hc).symm.trans hF
    refine z_aload_n (n := 17) dJ9_charAt_16 rfl 0 rfl rfl ?_
    obtain ⟨o_5, hr_6, hF⟩ := zb1_some hF
    refine z_getRS (n := 20) dJ9_charAt_17 rfl zok15 fJ9_9_15 rfl hk_2 (Or.inr rfl) hr_6 ?_
    refine z_iload_n (n := 21) dJ9_charAt_20 rfl 1 rfl rfl ?_
    cases hF -- callee J10_charAt
  · replace hF := (if_neg hc).symm.trans hF
    refine z_aload_n (n := 8) dJ9_charAt_7 rfl 0 rfl rfl ?_
    obtain ⟨o_7, hr_8, hF⟩ := zb1_some hF
    refine z_getRS (n := 11) dJ9_charAt_8 rfl zok15 fJ9_9_15 rfl hk_2 (Or.inr rfl) hr_8 ?_
    refine z_iload_n (n := 12) dJ9_charAt_11 rfl 1 rfl rfl ?_
    obtain ⟨x_10, c_9, hF⟩ := zb1_some hF
    refine z_cS (n := 15) (st := []) (C_J15_charAt htr c_9) dJ9_charAt_12 rfl (lw_S q1302 q1303 q123 q1304) hcee_J15_charAt rfl (by decide) rfl (Nat.le_of_ble_eq_true rfl) (Nat.le_refl _) (Nat.le_refl _) ?_
    obtain ⟨h_11, hF⟩ := zg_some hF
    have hF := Option.some.inj hF; subst hF
    exact z_iret dJ9_charAt_15 rfl (zfitsC_ok h_11).1 ⟨rfl, rfl, rfl, rfl, rfl⟩
abbrev MX4_values : zM := (RX4, cX4_values, 0, (some (.array (.object "SableCrown$Value"))), "values", [])
noncomputable def F_X4_values (h : zSt) : Option ((Nat × Nat) × (Option Nat × zSt)) := zg ((hK h) 17).isSome (zpay (1, 7) (zg (decide ((hK h) 17 = some (70, 7))) (zg (zfree h) (zlet (hN h) (fun o_6 => zlet (zsF (znA h 70 7) (zu1 (jF h) (hN h) (jF h 17))) (fun h_4 => zka (hK h_4) o_6 70 (fun n_8 => zg (decide (600 ≤ o_6)) (some ((0, 0), ((some o_6), h_4))))))))))
set_option maxHeartbeats 1000000 in
theorem C_X4_values {l : Launch} {G : zGt} (htr : l.stackTraces = false) {h : zSt} {cc : Nat × Nat} {r : Option Nat × zSt} (hF : F_X4_values h = some (cc, r)) : zMet l G yX4_values (ws_ yX4_values cX4_values 0 (some (.array (.object "SableCrown$Value")))) 1 40 (cc.1 + 0) (cc.2 + 0) [] (hK h) (jF h) (hI h) (hL h) (zQe (.inl (some (zrf r.1))) (hK r.2) (jF r.2) (hI r.2) (hL r.2)) := by
  refine zMet.of (by decide +kernel) htr (Nat.le_of_ble_eq_true rfl) ?_
  change zW l G MX4_values 1 40 (cc.1 + 0) (cc.2 + 0) 0 [] [] (hK h) (jF h) (hI h) (hL h) (zQe (.inl (some (zrf r.1))) (hK r.2) (jF r.2) (hI r.2) (hL r.2))
  unfold F_X4_values at hF
  obtain ⟨hk_1, hF⟩ := zg_some hF
  refine z_gets (n := 3) (v := .ref 17) dX4_values_0 rfl zst_Value_VALUES q508 (fun j h => by cases h; exact ⟨by decide, zsome hk_1⟩) ?_
  obtain ⟨cc, hF, hcc⟩ := zpay_some hF
  refine z_payE hcc ?_
  obtain ⟨hk_2, hF⟩ := zg_some hF
  obtain ⟨hn_3, hF⟩ := zg_some hF
  obtain ⟨o_6, e_7, hF⟩ := zlet_ob hF
  obtain ⟨h_4, e_5, hF⟩ := zlet_ob hF
  refine z_clone (n := 6) dX4_values_3 rfl q510 q511 q284 q285 q512 q513 (of_decide_eq_true hk_2) hn_3 e_7 e_5 (by decide) (Nat.le_of_ble_eq_true rfl) ?_
  obtain ⟨n_8, hk_9, hF⟩ := zka_some hF
  obtain ⟨hb_10, hF⟩ := zg_some hF
  refine z_castV (n := 9) dX4_values_6 rfl q515 hk_9 (zbig hb_10) ?_
  obtain ⟨rfl, rfl⟩ := zpair hF
  exact z_aret (r := (some o_6)) dX4_values_9 rfl (Or.inr ⟨_, rfl⟩) ⟨rfl, rfl, rfl, rfl, rfl⟩
theorem fX3_13_3 : zFld RX3 13 3 0 := ⟨_, rfl, by decide, _, Or.inl q516, Or.inl rfl⟩
theorem hcee_X4_values : zCee yX4_values RX4 0 := ⟨rfl, by decide +kernel, by decide +kernel, by decide +kernel⟩
abbrev MX3_init : zM := (RX3, cX3_init, 1, none, "<init>", [])
noncomputable def F_X3_init (o0 : Nat) (h : zSt) : Option ((Nat × Nat) × (zSt)) := zc1 (F_X4_values h) (fun c_4 => zn2 (fun q_2 h_3 => zpay c_4 (zb1 q_2 (fun o_6 => zka (hK h_3) o_6 70 (fun n_8 => zg (zarrn (nI n_8)) (zpay (1, (nI n_8).toNatClampNeg) (zg (zfree h_3) (zlet (hN h_3) (fun o_14 => zlet (znA h_3 64 ((nI n_8).toNatClampNeg)) (fun h_12 => zka (hK h_12) o0 3 (fun n_16 => zg (decide (600 ≤ o0)) (zlet (zsF h_12 (zu (jF h_12) o0 0 (some o_14))) (fun h_19 => some ((0, 0), h_19))))))))))))))
set_option maxHeartbeats 1000000 in
theorem C_X3_init {l : Launch} {G : zGt} (htr : l.stackTraces = false) {o0 : Nat} {h : zSt} {cc : Nat × Nat} {r : zSt} (hF : F_X3_init o0 h = some (cc, r)) : zMet l G yX3_init (ws_ yX3_init cX3_init 1 none) 2 59 (cc.1 + 0) (cc.2 + 0) [.ref o0] (hK h) (jF h) (hI h) (hL h) (zQe (.inl none) (hK r) (jF r) (hI r) (hL r)) := by
  refine zMet.of (by decide +kernel) htr (Nat.le_of_ble_eq_true rfl) ?_
  change zW l G MX3_init 2 59 (cc.1 + 0) (cc.2 + 0) 0 [(0, .ref o0)] [] (hK h) (jF h) (hI h) (hL h) (zQe (.inl none) (hK r) (jF r) (hI r) (hL r))
  unfold F_X3_init at hF
  refine z_aload_n (n := 1) dX3_init_0 rfl 0 rfl rfl ?_
  refine z_objInit (n := 4) dX3_init_1 rfl q504 q151 q152 (by decide) (Nat.le_of_ble_eq_true rfl) ?_
  refine z_aload_n (n := 5) dX3_init_4 rfl 0 rfl rfl ?_
  obtain ⟨c_4, t_5, c_1, hF⟩ := zc1_some hF
  obtain ⟨q_2, h_3⟩ := t_5
  dsimp only [zn2] at hF
  obtain ⟨cc, hF, hcc⟩ := zpay_some hF
  refine z_payE hcc ?_
  refine z_cS (n := 8) (mc2 := (cc.1 + 0)) (ms2 := (cc.2 + 0)) (st := [.ref o0]) (C_X4_values htr c_1) dX3_init_5 rfl (lw_S q505 q506 q128 q507) hcee_X4_values rfl (by decide) rfl (Nat.le_of_ble_eq_true rfl) (Nat.le_of_eq (Nat.add_comm _ _)) (Nat.le_of_eq (Nat.add_comm _ _)) ?_
  obtain ⟨o_6, hr_7, hF⟩ := zb1_some hF
  rw [hr_7]
  obtain ⟨n_8, hk_9, hF⟩ := zka_some hF
  refine z_alen (n := 9) 6 (by decide) dX3_init_8 rfl hk_9 ?_
  obtain ⟨h_10, hF⟩ := zg_some hF
  obtain ⟨cc, hF, hcc⟩ := zpay_some hF
  refine z_payE hcc ?_
  obtain ⟨hn_11, hF⟩ := zg_some hF
  obtain ⟨o_14, e_15, hF⟩ := zlet_ob hF
  obtain ⟨h_12, e_13, hF⟩ := zlet_ob hF
  refine z_newaT (t := 0) (n := 11) .int dX3_init_9 rfl rfl (by decide) q521 h_10 rfl (by decide) hn_11 e_15 e_13 ?_
  obtain ⟨n_16, hk_17, hF⟩ := zka_some hF
  obtain ⟨hb_18, hF⟩ := zg_some hF
  obtain ⟨h_19, e_20, hF⟩ := zlet_ob hF
  refine z_putR (r := (some o_14)) (n := 14) dX3_init_11 rfl zok3 fX3_13_3 (Or.inr ⟨rfl, _, rfl, rfl, rfl⟩) rfl hk_17 (zbig hb_18) ?_
  refine z_toF e_20 ?_
  obtain ⟨rfl, rfl⟩ := zpair hF
  exact z_vret dX3_init_14 rfl ⟨rfl, rfl, rfl, rfl, rfl⟩
