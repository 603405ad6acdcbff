def zMok (K : zKd) (F : zFd) : Bool := decide (K 1860 = some (6, 0)) && zMTab.all (fun q => decide (F 1860 q.1 = some q.2.1) && decide (K q.2.1 = some (q.2.2.1, q.2.2.2)))
theorem zMok_ok {K : zKd} {F : zFd} (h : zMok K F = true) : zMLay K F := by
  simp only [zMok, Bool.and_eq_true, List.all_eq_true, decide_eq_true_eq] at h
  exact h
theorem hcee_X0_band : zCee yX0_band RX0 4 := ⟨rfl, by decide +kernel, by decide +kernel, by decide +kernel⟩
theorem hcee_X0_bows : zCee yX0_bows RX0 4 := ⟨rfl, by decide +kernel, by decide +kernel, by decide +kernel⟩
theorem hcee_X0_count : zCee yX0_count RX0 3 := ⟨rfl, by decide +kernel, by decide +kernel, by decide +kernel⟩
theorem hcee_X0_counted : zCee yX0_counted RX0 4 := ⟨rfl, by decide +kernel, by decide +kernel, by decide +kernel⟩
theorem hcee_X0_dye : zCee yX0_dye RX0 4 := ⟨rfl, by decide +kernel, by decide +kernel, by decide +kernel⟩
theorem hcee_X0_empty : zCee yX0_empty RX0 3 := ⟨rfl, by decide +kernel, by decide +kernel, by decide +kernel⟩
theorem hcee_X0_far : zCee yX0_far RX0 4 := ⟨rfl, by decide +kernel, by decide +kernel, by decide +kernel⟩
theorem hcee_X0_first : zCee yX0_first RX0 3 := ⟨rfl, by decide +kernel, by decide +kernel, by decide +kernel⟩
theorem hcee_X0_forEver : zCee yX0_forEver RX0 3 := ⟨rfl, by decide +kernel, by decide +kernel, by decide +kernel⟩
theorem hcee_X0_forest : zCee yX0_forest RX0 4 := ⟨rfl, by decide +kernel, by decide +kernel, by decide +kernel⟩
theorem hcee_X0_forgive : zCee yX0_forgive RX0 3 := ⟨rfl, by decide +kernel, by decide +kernel, by decide +kernel⟩
theorem hcee_X0_game : zCee yX0_game RX0 7 := ⟨rfl, by decide +kernel, by decide +kernel, by decide +kernel⟩
theorem hcee_X0_hidden : zCee yX0_hidden RX0 3 := ⟨rfl, by decide +kernel, by decide +kernel, by decide +kernel⟩
theorem hcee_X0_hostages : zCee yX0_hostages RX0 3 := ⟨rfl, by decide +kernel, by decide +kernel, by decide +kernel⟩
theorem hcee_X0_land : zCee yX0_land RX0 3 := ⟨rfl, by decide +kernel, by decide +kernel, by decide +kernel⟩
theorem hcee_X0_lastBlack : zCee yX0_lastBlack RX0 3 := ⟨rfl, by decide +kernel, by decide +kernel, by decide +kernel⟩
theorem hcee_X0_look : zCee yX0_look RX0 3 := ⟨rfl, by decide +kernel, by decide +kernel, by decide +kernel⟩
theorem hcee_X0_meeting : zCee yX0_meeting RX0 5 := ⟨rfl, by decide +kernel, by decide +kernel, by decide +kernel⟩
theorem hcee_X0_move : zCee yX0_move RX0 4 := ⟨rfl, by decide +kernel, by decide +kernel, by decide +kernel⟩
theorem hcee_X0_owing : zCee yX0_owing RX0 3 := ⟨rfl, by decide +kernel, by decide +kernel, by decide +kernel⟩
theorem hcee_X0_paid : zCee yX0_paid RX0 4 := ⟨rfl, by decide +kernel, by decide +kernel, by decide +kernel⟩
theorem hcee_X0_rest : zCee yX0_rest RX0 4 := ⟨rfl, by decide +kernel, by decide +kernel, by decide +kernel⟩
theorem hcee_X0_resting : zCee yX0_resting RX0 4 := ⟨rfl, by decide +kernel, by decide +kernel, by decide +kernel⟩
theorem hcee_X0_round : zCee yX0_round RX0 3 := ⟨rfl, by decide +kernel, by decide +kernel, by decide +kernel⟩
theorem hcee_X0_spy : zCee yX0_spy RX0 5 := ⟨rfl, by decide +kernel, by decide +kernel, by decide +kernel⟩
theorem hcee_X0_then : zCee yX0_then RX0 4 := ⟨rfl, by decide +kernel, by decide +kernel, by decide +kernel⟩
theorem hcee_X0_where : zCee yX0_where RX0 5 := ⟨rfl, by decide +kernel, by decide +kernel, by decide +kernel⟩
theorem hcee_X0_winter : zCee yX0_winter RX0 5 := ⟨rfl, by decide +kernel, by decide +kernel, by decide +kernel⟩
theorem hcee_X1_blackest : zCee yX1_blackest RX1 0 := ⟨rfl, by decide +kernel, by decide +kernel, by decide +kernel⟩
theorem hcee_X1_fault : zCee yX1_fault RX1 0 := ⟨rfl, by decide +kernel, by decide +kernel, by decide +kernel⟩
theorem hcee_X1_feed : zCee yX1_feed RX1 5 := ⟨rfl, by decide +kernel, by decide +kernel, by decide +kernel⟩
theorem hcee_X1_forget : zCee yX1_forget RX1 0 := ⟨rfl, by decide +kernel, by decide +kernel, by decide +kernel⟩
theorem hcee_X1_image : zCee yX1_image RX1 0 := ⟨rfl, by decide +kernel, by decide +kernel, by decide +kernel⟩
theorem hcee_X1_init : zCee yX1_init RX1 0 := ⟨rfl, by decide +kernel, by decide +kernel, by decide +kernel⟩
theorem hcee_X1_restore : zCee yX1_restore RX1 0 := ⟨rfl, by decide +kernel, by decide +kernel, by decide +kernel⟩
theorem hcee_X1_undo : zCee yX1_undo RX1 0 := ⟨rfl, by decide +kernel, by decide +kernel, by decide +kernel⟩
theorem hcee_X1_years : zCee yX1_years RX1 1 := ⟨rfl, by decide +kernel, by decide +kernel, by decide +kernel⟩
theorem hcee_X7_band : zCee yX7_band RX7 2 := ⟨rfl, by decide +kernel, by decide +kernel, by decide +kernel⟩
theorem hcee_X7_blackest : zCee yX7_blackest RX7 0 := ⟨rfl, by decide +kernel, by decide +kernel, by decide +kernel⟩
theorem hcee_X7_bows : zCee yX7_bows RX7 2 := ⟨rfl, by decide +kernel, by decide +kernel, by decide +kernel⟩
theorem hcee_X7_count : zCee yX7_count RX7 1 := ⟨rfl, by decide +kernel, by decide +kernel, by decide +kernel⟩
theorem hcee_X7_counted : zCee yX7_counted RX7 2 := ⟨rfl, by decide +kernel, by decide +kernel, by decide +kernel⟩
theorem hcee_X7_dye : zCee yX7_dye RX7 2 := ⟨rfl, by decide +kernel, by decide +kernel, by decide +kernel⟩
theorem hcee_X7_empty : zCee yX7_empty RX7 1 := ⟨rfl, by decide +kernel, by decide +kernel, by decide +kernel⟩
theorem hcee_X7_far : zCee yX7_far RX7 2 := ⟨rfl, by decide +kernel, by decide +kernel, by decide +kernel⟩
theorem hcee_X7_fault : zCee yX7_fault RX7 0 := ⟨rfl, by decide +kernel, by decide +kernel, by decide +kernel⟩
theorem hcee_X7_feed : zCee yX7_feed RX7 5 := ⟨rfl, by decide +kernel, by decide +kernel, by decide +kernel⟩
theorem hcee_X7_first : zCee yX7_first RX7 1 := ⟨rfl, by decide +kernel, by decide +kernel, by decide +kernel⟩
theorem hcee_X7_forEver : zCee yX7_forEver RX7 1 := ⟨rfl, by decide +kernel, by decide +kernel, by decide +kernel⟩
theorem hcee_X7_forest : zCee yX7_forest RX7 2 := ⟨rfl, by decide +kernel, by decide +kernel, by decide +kernel⟩
theorem hcee_X7_forget : zCee yX7_forget RX7 0 := ⟨rfl, by decide +kernel, by decide +kernel, by decide +kernel⟩
theorem hcee_X7_forgive : zCee yX7_forgive RX7 1 := ⟨rfl, by decide +kernel, by decide +kernel, by decide +kernel⟩
theorem hcee_X7_game : zCee yX7_game RX7 5 := ⟨rfl, by decide +kernel, by decide +kernel, by decide +kernel⟩
theorem hcee_X7_hidden : zCee yX7_hidden RX7 1 := ⟨rfl, by decide +kernel, by decide +kernel, by decide +kernel⟩
theorem hcee_X7_hostages : zCee yX7_hostages RX7 1 := ⟨rfl, by decide +kernel, by decide +kernel, by decide +kernel⟩
theorem hcee_X7_image : zCee yX7_image RX7 0 := ⟨rfl, by decide +kernel, by decide +kernel, by decide +kernel⟩
theorem hcee_X7_init : zCee yX7_init RX7 0 := ⟨rfl, by decide +kernel, by decide +kernel, by decide +kernel⟩
theorem hcee_X7_land : zCee yX7_land RX7 1 := ⟨rfl, by decide +kernel, by decide +kernel, by decide +kernel⟩
theorem hcee_X7_lastBlack : zCee yX7_lastBlack RX7 1 := ⟨rfl, by decide +kernel, by decide +kernel, by decide +kernel⟩
theorem hcee_X7_look : zCee yX7_look RX7 1 := ⟨rfl, by decide +kernel, by decide +kernel, by decide +kernel⟩
theorem hcee_X7_meeting : zCee yX7_meeting RX7 3 := ⟨rfl, by decide +kernel, by decide +kernel, by decide +kernel⟩
theorem hcee_X7_move : zCee yX7_move RX7 2 := ⟨rfl, by decide +kernel, by decide +kernel, by decide +kernel⟩
theorem hcee_X7_owing : zCee yX7_owing RX7 1 := ⟨rfl, by decide +kernel, by decide +kernel, by decide +kernel⟩
theorem hcee_X7_paid : zCee yX7_paid RX7 2 := ⟨rfl, by decide +kernel, by decide +kernel, by decide +kernel⟩
theorem hcee_X7_rest : zCee yX7_rest RX7 2 := ⟨rfl, by decide +kernel, by decide +kernel, by decide +kernel⟩
theorem hcee_X7_resting : zCee yX7_resting RX7 2 := ⟨rfl, by decide +kernel, by decide +kernel, by decide +kernel⟩
theorem hcee_X7_restore : zCee yX7_restore RX7 0 := ⟨rfl, by decide +kernel, by decide +kernel, by decide +kernel⟩
theorem hcee_X7_round : zCee yX7_round RX7 1 := ⟨rfl, by decide +kernel, by decide +kernel, by decide +kernel⟩
theorem hcee_X7_spy : zCee yX7_spy RX7 3 := ⟨rfl, by decide +kernel, by decide +kernel, by decide +kernel⟩
theorem hcee_X7_then : zCee yX7_then RX7 2 := ⟨rfl, by decide +kernel, by decide +kernel, by decide +kernel⟩
theorem hcee_X7_thrown : zCee yX7_thrown RX7 0 := ⟨rfl, by decide +kernel, by decide +kernel, by decide +kernel⟩
theorem hcee_X7_undo : zCee yX7_undo RX7 0 := ⟨rfl, by decide +kernel, by decide +kernel, by decide +kernel⟩
theorem hcee_X7_where : zCee yX7_where RX7 3 := ⟨rfl, by decide +kernel, by decide +kernel, by decide +kernel⟩
theorem hcee_X7_winter : zCee yX7_winter RX7 3 := ⟨rfl, by decide +kernel, by decide +kernel, by decide +kernel⟩
theorem hcee_X7_years : zCee yX7_years RX7 1 := ⟨rfl, by decide +kernel, by decide +kernel, by decide +kernel⟩
abbrev ML_law : zM := (RX0, cL_law, 7, some .boolean, "law", [])
noncomputable def F_L_law_L23 (a0 : Nat) (o_4 : Nat) (o_19 : Nat) (v4_21 : Int32) (h_22 : zSt) : Option ((Nat × Nat) × ((Int32 × zSt) ⊕ ((zSt) ⊕ (Int32 × zSt)))) := zka (hK h_22) a0 64 (fun n_23 => if ((nI n_23) - 6) < v4_21 then some ((0, 0), .inr (.inl h_22)) else zg (zin v4_21 n_23) (if (((hI h_22) a0 v4_21.toNatClampNeg) &&& (63 : Int32)) = 0 then zg (zin (v4_21 + 1) n_23) (zg (zin (v4_21 + 2) n_23) (zg (zin (v4_21 + 3) n_23) (zg (zin (v4_21 + 4) n_23) (zg (zin (v4_21 + 5) n_23) (zka (hK h_22) o_4 0 (fun n_31 => zb2 (F_X1_feed (hK h_22) (jF h_22) o_4 ((hI h_22) a0 ((v4_21 + 1).toNatClampNeg)) ((hI h_22) a0 ((v4_21 + 2).toNatClampNeg)) ((hI h_22) a0 ((v4_21 + 3).toNatClampNeg)) ((hI h_22) a0 ((v4_21 + 4).toNatClampNeg)) ((hI h_22) a0 ((v4_21 + 5).toNatClampNeg)) (hI h_22)) (fun x_34 I_35 => zlet (zsFI h_22 (jF h_22) I_35) (fun h_36 => zka (hK h_36) a0 64 (fun n_38 => zg (zin (v4_21 + 1) n_38) (zg (zin (v4_21 + 2) n_38) (zg (zin (v4_21 + 3) n_38) (zg (zin (v4_21 + 4) n_38) (zg (zin (v4_21 + 5) n_38) (zg (zMok (hK h_36) (jF h_36)) (zka (hK h_36) 1860 6 (fun n_46 => zb2 (F_X7_feed ((hI h_36) a0 ((v4_21 + 1).toNatClampNeg)) ((hI h_36) a0 ((v4_21 + 2).toNatClampNeg)) ((hI h_36) a0 ((v4_21 + 3).toNatClampNeg)) ((hI h_36) a0 ((v4_21 + 4).toNatClampNeg)) ((hI h_36) a0 ((v4_21 + 5).toNatClampNeg)) (hI h_36)) (fun x_49 I_50 => zlet (zsFI h_36 (jF h_36) I_50) (fun h_51 => if x_34 = x_49 then zlet (v4_21 + 6) (fun v4_53 => some ((0, 0), .inl (v4_53, h_51))) else some ((0, 0), .inr (.inr (0, h_51))))))))))))))))))))) else if (((hI h_22) a0 v4_21.toNatClampNeg) &&& (63 : Int32)) = 1 then zg (zin (v4_21 + 1) n_23) (zc1 (F_X0_land o_4 ((hI h_22) a0 ((v4_21 + 1).toNatClampNeg)) o_19 h_22) (fun c_59 => zn2 (fun x_57 h_58 => zpay c_59 (zka (hK h_58) a0 64 (fun n_61 => zg (zin (v4_21 + 1) n_61) (zg (zMok (hK h_58) (jF h_58)) (zka (hK h_58) 1860 6 (fun n_65 => zb2 (F_X7_land (hK h_58) (jF h_58) ((hI h_58) a0 ((v4_21 + 1).toNatClampNeg)) (hI h_58)) (fun x_68 I_69 => zlet (zsFI h_58 (jF h_58) I_69) (fun h_70 => zg (zMok (hK h_70) (jF h_70)) (zka (hK h_70) 1860 6 (fun n_73 => zb1 (F_X7_thrown (hI h_70)) (fun x_76 => if x_76 = x_57 then if ¬ x_57 = 0 then zlet (v4_21 + 6) (fun v4_77 => some ((0, 0), .inl (v4_77, h_70))) else zka (hK h_70) o_19 67 (fun n_79 => zg (zin 0 n_79) (if (lg_cmp ((hL h_70) o_19 0) x_68.toInt64) = 0 then zlet (v4_21 + 6) (fun v4_82 => some ((0, 0), .inl (v4_82, h_70))) else some ((0, 0), .inr (.inr (0, h_70))))) else some ((0, 0), .inr (.inr (0, h_70)))))))))))))))) else if (((hI h_22) a0 v4_21.toNatClampNeg) &&& (63 : Int32)) = 2 then zka (hK h_22) o_4 0 (fun n_84 => zb1 (F_X1_fault (hK h_22) (jF h_22) o_4 (hI h_22)) (fun x_87 => zg (zMok (hK h_22) (jF h_22)) (zka (hK h_22) 1860 6 (fun n_89 => zb2 (F_X7_fault (hI h_22)) (fun x_92 I_93 => zlet (zsFI h_22 (jF h_22) I_93) (fun h_94 => if x_87 = x_92 then zlet (v4_21 + 6) (fun v4_96 => some ((0, 0), .inl (v4_96, h_94))) else some ((0, 0), .inr (.inr (0, h_94))))))))) else if (((hI h_22) a0 v4_21.toNatClampNeg) &&& (63 : Int32)) = 3 then zg (zin (v4_21 + 1) n_23) (zc1 (F_X0_count o_4 ((hI h_22) a0 ((v4_21 + 1).toNatClampNeg)) o_19 h_22) (fun c_102 => zn2 (fun x_100 h_101 => zpay c_102 (zka (hK h_101) a0 64 (fun n_104 => zg (zin (v4_21 + 1) n_104) (zg (zMok (hK h_101) (jF h_101)) (zka (hK h_101) 1860 6 (fun n_108 => zb2 (F_X7_count ((hI h_101) a0 ((v4_21 + 1).toNatClampNeg)) (hI h_101)) (fun x_111 I_112 => zlet (zsFI h_101 (jF h_101) I_112) (fun h_113 => zg (zMok (hK h_113) (jF h_113)) (zka (hK h_113) 1860 6 (fun n_116 => zb1 (F_X7_thrown (hI h_113)) (fun x_119 => if x_119 = x_100 then if ¬ x_100 = 0 then zlet (v4_21 + 6) (fun v4_120 => some ((0, 0), .inl (v4_120, h_113))) else zka (hK h_113) o_19 67 (fun n_122 => zg (zin 0 n_122) (if (lg_cmp ((hL h_113) o_19 0) x_111.toInt64) = 0 then zlet (v4_21 + 6) (fun v4_125 => some ((0, 0), .inl (v4_125, h_113))) else some ((0, 0), .inr (.inr (0, h_113))))) else some ((0, 0), .inr (.inr (0, h_113)))))))))))))))) else if (((hI h_22) a0 v4_21.toNatClampNeg) &&& (63 : Int32)) = 4 then zg (zin (v4_21 + 1) n_23) (zg (zin (v4_21 + 2) n_23) (zc1 (F_X0_forest o_4 ((hI h_22) a0 ((v4_21 + 1).toNatClampNeg)) ((hI h_22) a0 ((v4_21 + 2).toNatClampNeg)) o_19 h_22) (fun c_132 => zn2 (fun x_130 h_131 => zpay c_132 (zka (hK h_131) a0 64 (fun n_134 => zg (zin (v4_21 + 1) n_134) (zg (zin (v4_21 + 2) n_134) (zg (zMok (hK h_131) (jF h_131)) (zka (hK h_131) 1860 6 (fun n_139 => zb2 (F_X7_forest ((hI h_131) a0 ((v4_21 + 1).toNatClampNeg)) ((hI h_131) a0 ((v4_21 + 2).toNatClampNeg)) (hI h_131)) (fun x_142 I_143 => zlet (zsFI h_131 (jF h_131) I_143) (fun h_144 => zg (zMok (hK h_144) (jF h_144)) (zka (hK h_144) 1860 6 (fun n_147 => zb1 (F_X7_thrown (hI h_144)) (fun x_150 => if x_150 = x_130 then if ¬ x_130 = 0 then zlet (v4_21 + 6) (fun v4_151 => some ((0, 0), .inl (v4_151, h_144))) else zka (hK h_144) o_19 67 (fun n_153 => zg (zin 0 n_153) (if (lg_cmp ((hL h_144) o_19 0) x_142.toInt64) = 0 then zlet (v4_21 + 6) (fun v4_156 => some ((0, 0), .inl (v4_156, h_144))) else some ((0, 0), .inr (.inr (0, h_144))))) else some ((0, 0), .inr (.inr (0, h_144)))))))))))))))))) else if (((hI h_22) a0 v4_21.toNatClampNeg) &&& (63 : Int32)) = 5 then zg (zin (v4_21 + 1) n_23) (zg (zin (v4_21 + 2) n_23) (zc1 (F_X0_band o_4 ((hI h_22) a0 ((v4_21 + 1).toNatClampNeg)) ((hI h_22) a0 ((v4_21 + 2).toNatClampNeg)) o_19 h_22) (fun c_163 => zn2 (fun x_161 h_162 => zpay c_163 (zka (hK h_162) a0 64 (fun n_165 => zg (zin (v4_21 + 1) n_165) (zg (zin (v4_21 + 2) n_165) (zg (zMok (hK h_162) (jF h_162)) (zka (hK h_162) 1860 6 (fun n_170 => zb2 (F_X7_band ((hI h_162) a0 ((v4_21 + 1).toNatClampNeg)) ((hI h_162) a0 ((v4_21 + 2).toNatClampNeg)) (hI h_162)) (fun x_173 I_174 => zlet (zsFI h_162 (jF h_162) I_174) (fun h_175 => zg (zMok (hK h_175) (jF h_175)) (zka (hK h_175) 1860 6 (fun n_178 => zb1 (F_X7_thrown (hI h_175)) (fun x_181 => if x_181 = x_161 then if ¬ x_161 = 0 then zlet (v4_21 + 6) (fun v4_182 => some ((0, 0), .inl (v4_182, h_175))) else zka (hK h_175) o_19 67 (fun n_184 => zg (zin 0 n_184) (if (lg_cmp ((hL h_175) o_19 0) x_173.toInt64) = 0 then zlet (v4_21 + 6) (fun v4_187 => some ((0, 0), .inl (v4_187, h_175))) else some ((0, 0), .inr (.inr (0, h_175))))) else some ((0, 0), .inr (.inr (0, h_175)))))))))))))))))) else if (((hI h_22) a0 v4_21.toNatClampNeg) &&& (63 : Int32)) = 6 then zg (zin (v4_21 + 1) n_23) (zka (hK h_22) o_4 0 (fun n_190 => zc1 (F_X1_years o_4 ((hI h_22) a0 ((v4_21 + 1).toNatClampNeg)) h_22) (fun c_195 => zn2 (fun x_193 h_194 => zpay c_195 (zka (hK h_194) a0 64 (fun n_197 => zg (zin (v4_21 + 1) n_197) (zg (zMok (hK h_194) (jF h_194)) (zka (hK h_194) 1860 6 (fun n_201 => zb2 (F_X7_years ((hI h_194) a0 ((v4_21 + 1).toNatClampNeg)) (hI h_194)) (fun x_204 I_205 => zlet (zsFI h_194 (jF h_194) I_205) (fun h_206 => if x_193 = x_204 then zlet (v4_21 + 6) (fun v4_208 => some ((0, 0), .inl (v4_208, h_206))) else some ((0, 0), .inr (.inr (0, h_206)))))))))))))) else if (((hI h_22) a0 v4_21.toNatClampNeg) &&& (63 : Int32)) = 7 then zg (zin (v4_21 + 1) n_23) (zg (zin (v4_21 + 2) n_23) (zc1 (F_X0_move o_4 ((hI h_22) a0 ((v4_21 + 1).toNatClampNeg)) ((hI h_22) a0 ((v4_21 + 2).toNatClampNeg)) o_19 h_22) (fun c_215 => zn2 (fun x_213 h_214 => zpay c_215 (zka (hK h_214) a0 64 (fun n_217 => zg (zin (v4_21 + 1) n_217) (zg (zin (v4_21 + 2) n_217) (zg (zMok (hK h_214) (jF h_214)) (zka (hK h_214) 1860 6 (fun n_222 => zb2 (F_X7_move ((hI h_214) a0 ((v4_21 + 1).toNatClampNeg)) ((hI h_214) a0 ((v4_21 + 2).toNatClampNeg)) (hI h_214)) (fun x_225 I_226 => zlet (zsFI h_214 (jF h_214) I_226) (fun h_227 => zg (zMok (hK h_227) (jF h_227)) (zka (hK h_227) 1860 6 (fun n_230 => zb1 (F_X7_thrown (hI h_227)) (fun x_233 => if x_233 = x_213 then if ¬ x_213 = 0 then zlet (v4_21 + 6) (fun v4_234 => some ((0, 0), .inl (v4_234, h_227))) else zka (hK h_227) o_19 67 (fun n_236 => zg (zin 0 n_236) (if (lg_cmp ((hL h_227) o_19 0) x_225.toInt64) = 0 then zlet (v4_21 + 6) (fun v4_239 => some ((0, 0), .inl (v4_239, h_227))) else some ((0, 0), .inr (.inr (0, h_227))))) else some ((0, 0), .inr (.inr (0, h_227)))))))))))))))))) else if (((hI h_22) a0 v4_21.toNatClampNeg) &&& (63 : Int32)) = 8 then zg (zin (v4_21 + 1) n_23) (zg (zin (v4_21 + 2) n_23) (zc1 (F_X0_bows o_4 ((hI h_22) a0 ((v4_21 + 1).toNatClampNeg)) ((hI h_22) a0 ((v4_21 + 2).toNatClampNeg)) o_19 h_22) (fun c_246 => zn2 (fun x_244 h_245 => zpay c_246 (zka (hK h_245) a0 64 (fun n_248 => zg (zin (v4_21 + 1) n_248) (zg (zin (v4_21 + 2) n_248) (zg (zMok (hK h_245) (jF h_245)) (zka (hK h_245) 1860 6 (fun n_253 => zb2 (F_X7_bows ((hI h_245) a0 ((v4_21 + 1).toNatClampNeg)) ((hI h_245) a0 ((v4_21 + 2).toNatClampNeg)) (hI h_245)) (fun x_256 I_257 => zlet (zsFI h_245 (jF h_245) I_257) (fun h_258 => zg (zMok (hK h_258) (jF h_258)) (zka (hK h_258) 1860 6 (fun n_261 => zb1 (F_X7_thrown (hI h_258)) (fun x_264 => if x_264 = x_244 then if ¬ x_244 = 0 then zlet (v4_21 + 6) (fun v4_265 => some ((0, 0), .inl (v4_265, h_258))) else zka (hK h_258) o_19 67 (fun n_267 => zg (zin 0 n_267) (if (lg_cmp ((hL h_258) o_19 0) x_256.toInt64) = 0 then zlet (v4_21 + 6) (fun v4_270 => some ((0, 0), .inl (v4_270, h_258))) else some ((0, 0), .inr (.inr (0, h_258))))) else some ((0, 0), .inr (.inr (0, h_258)))))))))))))))))) else if (((hI h_22) a0 v4_21.toNatClampNeg) &&& (63 : Int32)) = 9 then zg (zin (v4_21 + 1) n_23) (zg (zin (v4_21 + 2) n_23) (zc1 (F_X0_rest o_4 ((hI h_22) a0 ((v4_21 + 1).toNatClampNeg)) ((hI h_22) a0 ((v4_21 + 2).toNatClampNeg)) o_19 h_22) (fun c_277 => zn2 (fun x_275 h_276 => zpay c_277 (zka (hK h_276) a0 64 (fun n_279 => zg (zin (v4_21 + 1) n_279) (zg (zin (v4_21 + 2) n_279) (zg (zMok (hK h_276) (jF h_276)) (zka (hK h_276) 1860 6 (fun n_284 => zb2 (F_X7_rest ((hI h_276) a0 ((v4_21 + 1).toNatClampNeg)) ((hI h_276) a0 ((v4_21 + 2).toNatClampNeg)) (hI h_276)) (fun x_287 I_288 => zlet (zsFI h_276 (jF h_276) I_288) (fun h_289 => zg (zMok (hK h_289) (jF h_289)) (zka (hK h_289) 1860 6 (fun n_292 => zb1 (F_X7_thrown (hI h_289)) (fun x_295 => if x_295 = x_275 then if ¬ x_275 = 0 then zlet (v4_21 + 6) (fun v4_296 => some ((0, 0), .inl (v4_296, h_289))) else zka (hK h_289) o_19 67 (fun n_298 => zg (zin 0 n_298) (if (lg_cmp ((hL h_289) o_19 0) x_287.toInt64) = 0 then zlet (v4_21 + 6) (fun v4_301 => some ((0, 0), .inl (v4_301, h_289))) else some ((0, 0), .inr (.inr (0, h_289))))) else some ((0, 0), .inr (.inr (0, h_289)))))))))))))))))) else if (((hI h_22) a0 v4_21.toNatClampNeg) &&& (63 : Int32)) = 10 then zg (zin (v4_21 + 1) n_23) (zg (zin (v4_21 + 2) n_23) (zc1 (F_X0_dye o_4 ((hI h_22) a0 ((v4_21 + 1).toNatClampNeg)) ((hI h_22) a0 ((v4_21 + 2).toNatClampNeg)) o_19 h_22) (fun c_308 => zn2 (fun x_306 h_307 => zpay c_308 (zka (hK h_307) a0 64 (fun n_310 => zg (zin (v4_21 + 1) n_310) (zg (zin (v4_21 + 2) n_310) (zg (zMok (hK h_307) (jF h_307)) (zka (hK h_307) 1860 6 (fun n_315 => zb2 (F_X7_dye ((hI h_307) a0 ((v4_21 + 1).toNatClampNeg)) ((hI h_307) a0 ((v4_21 + 2).toNatClampNeg)) (hI h_307)) (fun x_318 I_319 => zlet (zsFI h_307 (jF h_307) I_319) (fun h_320 => zg (zMok (hK h_320) (jF h_320)) (zka (hK h_320) 1860 6 (fun n_323 => zb1 (F_X7_thrown (hI h_320)) (fun x_326 => if x_326 = x_306 then if ¬ x_306 = 0 then zlet (v4_21 + 6) (fun v4_327 => some ((0, 0), .inl (v4_327, h_320))) else zka (hK h_320) o_19 67 (fun n_329 => zg (zin 0 n_329) (if (lg_cmp ((hL h_320) o_19 0) x_318.toInt64) = 0 then zlet (v4_21 + 6) (fun v4_332 => some ((0, 0), .inl (v4_332, h_320))) else some ((0, 0), .inr (.inr (0, h_320))))) else some ((0, 0), .inr (.inr (0, h_320)))))))))))))))))) else if (((hI h_22) a0 v4_21.toNatClampNeg) &&& (63 : Int32)) = 11 then zg (zin (v4_21 + 1) n_23) (zc1 (F_X0_forgive o_4 ((hI h_22) a0 ((v4_21 + 1).toNatClampNeg)) o_19 h_22) (fun c_338 => zn2 (fun x_336 h_337 => zpay c_338 (zka (hK h_337) a0 64 (fun n_340 => zg (zin (v4_21 + 1) n_340) (zg (zMok (hK h_337) (jF h_337)) (zka (hK h_337) 1860 6 (fun n_344 => zb2 (F_X7_forgive ((hI h_337) a0 ((v4_21 + 1).toNatClampNeg)) (hI h_337)) (fun x_347 I_348 => zlet (zsFI h_337 (jF h_337) I_348) (fun h_349 => zg (zMok (hK h_349) (jF h_349)) (zka (hK h_349) 1860 6 (fun n_352 => zb1 (F_X7_thrown (hI h_349)) (fun x_355 => if x_355 = x_336 then if ¬ x_336 = 0 then zlet (v4_21 + 6) (fun v4_356 => some ((0, 0), .inl (v4_356, h_349))) else zka (hK h_349) o_19 67 (fun n_358 => zg (zin 0 n_358) (if (lg_cmp ((hL h_349) o_19 0) x_347.toInt64) = 0 then zlet (v4_21 + 6) (fun v4_361 => some ((0, 0), .inl (v4_361, h_349))) else some ((0, 0), .inr (.inr (0, h_349))))) else some ((0, 0), .inr (.inr (0, h_349)))))))))))))))) else if (((hI h_22) a0 v4_21.toNatClampNeg) &&& (63 : Int32)) = 12 then zka (hK h_22) o_4 0 (fun n_363 => zb2 (F_X1_undo (hK h_22) (jF h_22) o_4 (hI h_22)) (fun x_366 I_367 => zlet (zsFI h_22 (jF h_22) I_367) (fun h_368 => zg (zMok (hK h_368) (jF h_368)) (zka (hK h_368) 1860 6 (fun n_371 => zb2 (F_X7_undo (hI h_368)) (fun x_374 I_375 => zlet (zsFI h_368 (jF h_368) I_375) (fun h_376 => if x_366 = x_374 then zlet (v4_21 + 6) (fun v4_378 => some ((0, 0), .inl (v4_378, h_376))) else some ((0, 0), .inr (.inr (0, h_376)))))))))) else if (((hI h_22) a0 v4_21.toNatClampNeg) &&& (63 : Int32)) = 13 then zg (zin (v4_21 + 1) n_23) (zg (zin (v4_21 + 2) n_23) (zc1 (F_X0_then o_4 ((hI h_22) a0 ((v4_21 + 1).toNatClampNeg)) ((hI h_22) a0 ((v4_21 + 2).toNatClampNeg)) o_19 h_22) (fun c_385 => zn2 (fun x_383 h_384 => zpay c_385 (zka (hK h_384) a0 64 (fun n_387 => zg (zin (v4_21 + 1) n_387) (zg (zin (v4_21 + 2) n_387) (zg (zMok (hK h_384) (jF h_384)) (zka (hK h_384) 1860 6 (fun n_392 => zb2 (F_X7_then ((hI h_384) a0 ((v4_21 + 1).toNatClampNeg)) ((hI h_384) a0 ((v4_21 + 2).toNatClampNeg)) (hI h_384)) (fun x_395 I_396 => zlet (zsFI h_384 (jF h_384) I_396) (fun h_397 => zg (zMok (hK h_397) (jF h_397)) (zka (hK h_397) 1860 6 (fun n_400 => zb1 (F_X7_thrown (hI h_397)) (fun x_403 => if x_403 = x_383 then if ¬ x_383 = 0 then zlet (v4_21 + 6) (fun v4_404 => some ((0, 0), .inl (v4_404, h_397))) else zka (hK h_397) o_19 67 (fun n_406 => zg (zin 0 n_406) (if (lg_cmp ((hL h_397) o_19 0) x_395.toInt64) = 0 then zlet (v4_21 + 6) (fun v4_409 => some ((0, 0), .inl (v4_409, h_397))) else some ((0, 0), .inr (.inr (0, h_397))))) else some ((0, 0), .inr (.inr (0, h_397)))))))))))))))))) else if (((hI h_22) a0 v4_21.toNatClampNeg) &&& (63 : Int32)) = 14 then zg (zin (v4_21 + 1) n_23) (zc1 (F_X0_empty o_4 ((hI h_22) a0 ((v4_21 + 1).toNatClampNeg)) o_19 h_22) (fun c_415 => zn2 (fun x_413 h_414 => zpay c_415 (zka (hK h_414) a0 64 (fun n_417 => zg (zin (v4_21 + 1) n_417) (zg (zMok (hK h_414) (jF h_414)) (zka (hK h_414) 1860 6 (fun n_421 => zb2 (F_X7_empty ((hI h_414) a0 ((v4_21 + 1).toNatClampNeg)) (hI h_414)) (fun x_424 I_425 => zlet (zsFI h_414 (jF h_414) I_425) (fun h_426 => zg (zMok (hK h_426) (jF h_426)) (zka (hK h_426) 1860 6 (fun n_429 => zb1 (F_X7_thrown (hI h_426)) (fun x_432 => if x_432 = x_413 then if ¬ x_413 = 0 then zlet (v4_21 + 6) (fun v4_433 => some ((0, 0), .inl (v4_433, h_426))) else zka (hK h_426) o_19 67 (fun n_435 => zg (zin 0 n_435) (if (lg_cmp ((hL h_426) o_19 0) x_424.toInt64) = 0 then zlet (v4_21 + 6) (fun v4_438 => some ((0, 0), .inl (v4_438, h_426))) else some ((0, 0), .inr (.inr (0, h_426))))) else some ((0, 0), .inr (.inr (0, h_426)))))))))))))))) else if (((hI h_22) a0 v4_21.toNatClampNeg) &&& (63 : Int32)) = 15 then zg (zin (v4_21 + 1) n_23) (zg (zin (v4_21 + 2) n_23) (zc1 (F_X0_paid o_4 ((hI h_22) a0 ((v4_21 + 1).toNatClampNeg)) ((hI h_22) a0 ((v4_21 + 2).toNatClampNeg)) o_19 h_22) (fun c_445 => zn2 (fun x_443 h_444 => zpay c_445 (zka (hK h_444) a0 64 (fun n_447 => zg (zin (v4_21 + 1) n_447) (zg (zin (v4_21 + 2) n_447) (zg (zMok (hK h_444) (jF h_444)) (zka (hK h_444) 1860 6 (fun n_452 => zb2 (F_X7_paid ((hI h_444) a0 ((v4_21 + 1).toNatClampNeg)) ((hI h_444) a0 ((v4_21 + 2).toNatClampNeg)) (hI h_444)) (fun x_455 I_456 => zlet (zsFI h_444 (jF h_444) I_456) (fun h_457 => zg (zMok (hK h_457) (jF h_457)) (zka (hK h_457) 1860 6 (fun n_460 => zb1 (F_X7_thrown (hI h_457)) (fun x_463 => if x_463 = x_443 then if ¬ x_443 = 0 then zlet (v4_21 + 6) (fun v4_464 => some ((0, 0), .inl (v4_464, h_457))) else zka (hK h_457) o_19 67 (fun n_466 => zg (zin 0 n_466) (if (lg_cmp ((hL h_457) o_19 0) x_455.toInt64) = 0 then zlet (v4_21 + 6) (fun v4_469 => some ((0, 0), .inl (v4_469, h_457))) else some ((0, 0), .inr (.inr (0, h_457))))) else some ((0, 0), .inr (.inr (0, h_457)))))))))))))))))) else if (((hI h_22) a0 v4_21.toNatClampNeg) &&& (63 : Int32)) = 16 then zg (zin (v4_21 + 1) n_23) (zc1 (F_X0_hostages o_4 ((hI h_22) a0 ((v4_21 + 1).toNatClampNeg)) o_19 h_22) (fun c_475 => zn2 (fun x_473 h_474 => zpay c_475 (zka (hK h_474) a0 64 (fun n_477 => zg (zin (v4_21 + 1) n_477) (zg (zMok (hK h_474) (jF h_474)) (zka (hK h_474) 1860 6 (fun n_481 => zb2 (F_X7_hostages ((hI h_474) a0 ((v4_21 + 1).toNatClampNeg)) (hI h_474)) (fun x_484 I_485 => zlet (zsFI h_474 (jF h_474) I_485) (fun h_486 => zg (zMok (hK h_486) (jF h_486)) (zka (hK h_486) 1860 6 (fun n_489 => zb1 (F_X7_thrown (hI h_486)) (fun x_492 => if x_492 = x_473 then if ¬ x_473 = 0 then zlet (v4_21 + 6) (fun v4_493 => some ((0, 0), .inl (v4_493, h_486))) else zka (hK h_486) o_19 67 (fun n_495 => zg (zin 0 n_495) (if (lg_cmp ((hL h_486) o_19 0) x_484.toInt64) = 0 then zlet (v4_21 + 6) (fun v4_498 => some ((0, 0), .inl (v4_498, h_486))) else some ((0, 0), .inr (.inr (0, h_486))))) else some ((0, 0), .inr (.inr (0, h_486)))))))))))))))) else if (((hI h_22) a0 v4_21.toNatClampNeg) &&& (63 : Int32)) = 17 then zg (zin (v4_21 + 1) n_23) (zc1 (F_X0_owing o_4 ((hI h_22) a0 ((v4_21 + 1).toNatClampNeg)) o_19 h_22) (fun c_504 => zn2 (fun x_502 h_503 => zpay c_504 (zka (hK h_503) a0 64 (fun n_506 => zg (zin (v4_21 + 1) n_506) (zg (zMok (hK h_503) (jF h_503)) (zka (hK h_503) 1860 6 (fun n_510 => zb2 (F_X7_owing ((hI h_503) a0 ((v4_21 + 1).toNatClampNeg)) (hI h_503)) (fun x_513 I_514 => zlet (zsFI h_503 (jF h_503) I_514) (fun h_515 => zg (zMok (hK h_515) (jF h_515)) (zka (hK h_515) 1860 6 (fun n_518 => zb1 (F_X7_thrown (hI h_515)) (fun x_521 => if x_521 = x_502 then if ¬ x_502 = 0 then zlet (v4_21 + 6) (fun v4_522 => some ((0, 0), .inl (v4_522, h_515))) else zka (hK h_515) o_19 67 (fun n_524 => zg (zin 0 n_524) (if (lg_cmp ((hL h_515) o_19 0) x_513.toInt64) = 0 then zlet (v4_21 + 6) (fun v4_527 => some ((0, 0), .inl (v4_527, h_515))) else some ((0, 0), .inr (.inr (0, h_515))))) else some ((0, 0), .inr (.inr (0, h_515)))))))))))))))) else if (((hI h_22) a0 v4_21.toNatClampNeg) &&& (63 : Int32)) = 18 then zka (hK h_22) o_4 0 (fun n_529 => zb1 (F_X1_blackest (hK h_22) (jF h_22) o_4 (hI h_22)) (fun x_532 => zg (zMok (hK h_22) (jF h_22)) (zka (hK h_22) 1860 6 (fun n_534 => zb2 (F_X7_blackest (hI h_22)) (fun x_537 I_538 => zlet (zsFI h_22 (jF h_22) I_538) (fun h_539 => if x_532 = x_537 then zlet (v4_21 + 6) (fun v4_541 => some ((0, 0), .inl (v4_541, h_539))) else some ((0, 0), .inr (.inr (0, h_539))))))))) else if (((hI h_22) a0 v4_21.toNatClampNeg) &&& (63 : Int32)) = 19 then zg (zin (v4_21 + 1) n_23) (zc1 (F_X0_lastBlack o_4 ((hI h_22) a0 ((v4_21 + 1).toNatClampNeg)) o_19 h_22) (fun c_547 => zn2 (fun x_545 h_546 => zpay c_547 (zka (hK h_546) a0 64 (fun n_549 => zg (zin (v4_21 + 1) n_549) (zg (zMok (hK h_546) (jF h_546)) (zka (hK h_546) 1860 6 (fun n_553 => zb2 (F_X7_lastBlack ((hI h_546) a0 ((v4_21 + 1).toNatClampNeg)) (hI h_546)) (fun x_556 I_557 => zlet (zsFI h_546 (jF h_546) I_557) (fun h_558 => zg (zMok (hK h_558) (jF h_558)) (zka (hK h_558) 1860 6 (fun n_561 => zb1 (F_X7_thrown (hI h_558)) (fun x_564 => if x_564 = x_545 then if ¬ x_545 = 0 then zlet (v4_21 + 6) (fun v4_565 => some ((0, 0), .inl (v4_565, h_558))) else zka (hK h_558) o_19 67 (fun n_567 => zg (zin 0 n_567) (if (lg_cmp ((hL h_558) o_19 0) x_556.toInt64) = 0 then zlet (v4_21 + 6) (fun v4_570 => some ((0, 0), .inl (v4_570, h_558))) else some ((0, 0), .inr (.inr (0, h_558))))) else some ((0, 0), .inr (.inr (0, h_558)))))))))))))))) else if (((hI h_22) a0 v4_21.toNatClampNeg) &&& (63 : Int32)) = 20 then zg (zin (v4_21 + 1) n_23) (zc1 (F_X0_forEver o_4 ((hI h_22) a0 ((v4_21 + 1).toNatClampNeg)) o_19 h_22) (fun c_576 => zn2 (fun x_574 h_575 => zpay c_576 (zka (hK h_575) a0 64 (fun n_578 => zg (zin (v4_21 + 1) n_578) (zg (zMok (hK h_575) (jF h_575)) (zka (hK h_575) 1860 6 (fun n_582 => zb2 (F_X7_forEver ((hI h_575) a0 ((v4_21 + 1).toNatClampNeg)) (hI h_575)) (fun x_585 I_586 => zlet (zsFI h_575 (jF h_575) I_586) (fun h_587 => zg (zMok (hK h_587) (jF h_587)) (zka (hK h_587) 1860 6 (fun n_590 => zb1 (F_X7_thrown (hI h_587)) (fun x_593 => if x_593 = x_574 then if ¬ x_574 = 0 then zlet (v4_21 + 6) (fun v4_594 => some ((0, 0), .inl (v4_594, h_587))) else zka (hK h_587) o_19 67 (fun n_596 => zg (zin 0 n_596) (if (lg_cmp ((hL h_587) o_19 0) x_585.toInt64) = 0 then zlet (v4_21 + 6) (fun v4_599 => some ((0, 0), .inl (v4_599, h_587))) else some ((0, 0), .inr (.inr (0, h_587))))) else some ((0, 0), .inr (.inr (0, h_587)))))))))))))))) else if (((hI h_22) a0 v4_21.toNatClampNeg) &&& (63 : Int32)) = 21 then zg (zin (v4_21 + 1) n_23) (zg (zin (v4_21 + 2) n_23) (zc1 (F_X0_resting o_4 ((hI h_22) a0 ((v4_21 + 1).toNatClampNeg)) ((hI h_22) a0 ((v4_21 + 2).toNatClampNeg)) o_19 h_22) (fun c_606 => zn2 (fun x_604 h_605 => zpay c_606 (zka (hK h_605) a0 64 (fun n_608 => zg (zin (v4_21 + 1) n_608) (zg (zin (v4_21 + 2) n_608) (zg (zMok (hK h_605) (jF h_605)) (zka (hK h_605) 1860 6 (fun n_613 => zb2 (F_X7_resting ((hI h_605) a0 ((v4_21 + 1).toNatClampNeg)) ((hI h_605) a0 ((v4_21 + 2).toNatClampNeg)) (hI h_605)) (fun x_616 I_617 => zlet (zsFI h_605 (jF h_605) I_617) (fun h_618 => zg (zMok (hK h_618) (jF h_618)) (zka (hK h_618) 1860 6 (fun n_621 => zb1 (F_X7_thrown (hI h_618)) (fun x_624 => if x_624 = x_604 then if ¬ x_604 = 0 then zlet (v4_21 + 6) (fun v4_625 => some ((0, 0), .inl (v4_625, h_618))) else zka (hK h_618) o_19 67 (fun n_627 => zg (zin 0 n_627) (if (lg_cmp ((hL h_618) o_19 0) x_616.toInt64) = 0 then zlet (v4_21 + 6) (fun v4_630 => some ((0, 0), .inl (v4_630, h_618))) else some ((0, 0), .inr (.inr (0, h_618))))) else some ((0, 0), .inr (.inr (0, h_618)))))))))))))))))) else if (((hI h_22) a0 v4_21.toNatClampNeg) &&& (63 : Int32)) = 22 then zg (zin (v4_21 + 1) n_23) (zg (zin (v4_21 + 2) n_23) (zc1 (F_X0_far o_4 ((hI h_22) a0 ((v4_21 + 1).toNatClampNeg)) ((hI h_22) a0 ((v4_21 + 2).toNatClampNeg)) o_19 h_22) (fun c_637 => zn2 (fun x_635 h_636 => zpay c_637 (zka (hK h_636) a0 64 (fun n_639 => zg (zin (v4_21 + 1) n_639) (zg (zin (v4_21 + 2) n_639) (zg (zMok (hK h_636) (jF h_636)) (zka (hK h_636) 1860 6 (fun n_644 => zb2 (F_X7_far ((hI h_636) a0 ((v4_21 + 1).toNatClampNeg)) ((hI h_636) a0 ((v4_21 + 2).toNatClampNeg)) (hI h_636)) (fun x_647 I_648 => zlet (zsFI h_636 (jF h_636) I_648) (fun h_649 => zg (zMok (hK h_649) (jF h_649)) (zka (hK h_649) 1860 6 (fun n_652 => zb1 (F_X7_thrown (hI h_649)) (fun x_655 => if x_655 = x_635 then if ¬ x_635 = 0 then zlet (v4_21 + 6) (fun v4_656 => some ((0, 0), .inl (v4_656, h_649))) else zka (hK h_649) o_19 67 (fun n_658 => zg (zin 0 n_658) (if (lg_cmp ((hL h_649) o_19 0) x_647.toInt64) = 0 then zlet (v4_21 + 6) (fun v4_661 => some ((0, 0), .inl (v4_661, h_649))) else some ((0, 0), .inr (.inr (0, h_649))))) else some ((0, 0), .inr (.inr (0, h_649)))))))))))))))))) else if (((hI h_22) a0 v4_21.toNatClampNeg) &&& (63 : Int32)) = 23 then zg (zin (v4_21 + 1) n_23) (zc1 (F_X0_round o_4 ((hI h_22) a0 ((v4_21 + 1).toNatClampNeg)) o_19 h_22) (fun c_667 => zn2 (fun x_665 h_666 => zpay c_667 (zka (hK h_666) a0 64 (fun n_669 => zg (zin (v4_21 + 1) n_669) (zg (zMok (hK h_666) (jF h_666)) (zka (hK h_666) 1860 6 (fun n_673 => zb2 (F_X7_round ((hI h_666) a0 ((v4_21 + 1).toNatClampNeg)) (hI h_666)) (fun x_676 I_677 => zlet (zsFI h_666 (jF h_666) I_677) (fun h_678 => zg (zMok (hK h_678) (jF h_678)) (zka (hK h_678) 1860 6 (fun n_681 => zb1 (F_X7_thrown (hI h_678)) (fun x_684 => if x_684 = x_665 then if ¬ x_665 = 0 then zlet (v4_21 + 6) (fun v4_685 => some ((0, 0), .inl (v4_685, h_678))) else zka (hK h_678) o_19 67 (fun n_687 => zg (zin 0 n_687) (if (lg_cmp ((hL h_678) o_19 0) x_676.toInt64) = 0 then zlet (v4_21 + 6) (fun v4_690 => some ((0, 0), .inl (v4_690, h_678))) else some ((0, 0), .inr (.inr (0, h_678))))) else some ((0, 0), .inr (.inr (0, h_678)))))))))))))))) else if (((hI h_22) a0 v4_21.toNatClampNeg) &&& (63 : Int32)) = 24 then zg (zin (v4_21 + 1) n_23) (zc1 (F_X0_first o_4 ((hI h_22) a0 ((v4_21 + 1).toNatClampNeg)) o_19 h_22) (fun c_696 => zn2 (fun x_694 h_695 => zpay c_696 (zka (hK h_695) a0 64 (fun n_698 => zg (zin (v4_21 + 1) n_698) (zg (zMok (hK h_695) (jF h_695)) (zka (hK h_695) 1860 6 (fun n_702 => zb2 (F_X7_first ((hI h_695) a0 ((v4_21 + 1).toNatClampNeg)) (hI h_695)) (fun x_705 I_706 => zlet (zsFI h_695 (jF h_695) I_706) (fun h_707 => zg (zMok (hK h_707) (jF h_707)) (zka (hK h_707) 1860 6 (fun n_710 => zb1 (F_X7_thrown (hI h_707)) (fun x_713 => if x_713 = x_694 then if ¬ x_694 = 0 then zlet (v4_21 + 6) (fun v4_714 => some ((0, 0), .inl (v4_714, h_707))) else zka (hK h_707) o_19 67 (fun n_716 => zg (zin 0 n_716) (if (lg_cmp ((hL h_707) o_19 0) x_705.toInt64) = 0 then zlet (v4_21 + 6) (fun v4_719 => some ((0, 0), .inl (v4_719, h_707))) else some ((0, 0), .inr (.inr (0, h_707))))) else some ((0, 0), .inr (.inr (0, h_707)))))))))))))))) else if (((hI h_22) a0 v4_21.toNatClampNeg) &&& (63 : Int32)) = 25 then zg (zin (v4_21 + 1) n_23) (zg (zin (v4_21 + 2) n_23) (zg (zin (v4_21 + 3) n_23) (zc1 (F_X0_meeting o_4 ((hI h_22) a0 ((v4_21 + 1).toNatClampNeg)) ((hI h_22) a0 ((v4_21 + 2).toNatClampNeg)) ((hI h_22) a0 ((v4_21 + 3).toNatClampNeg)) o_19 h_22) (fun c_727 => zn2 (fun x_725 h_726 => zpay c_727 (zka (hK h_726) a0 64 (fun n_729 => zg (zin (v4_21 + 1) n_729) (zg (zin (v4_21 + 2) n_729) (zg (zin (v4_21 + 3) n_729) (zg (zMok (hK h_726) (jF h_726)) (zka (hK h_726) 1860 6 (fun n_735 => zb2 (F_X7_meeting ((hI h_726) a0 ((v4_21 + 1).toNatClampNeg)) ((hI h_726) a0 ((v4_21 + 2).toNatClampNeg)) ((hI h_726) a0 ((v4_21 + 3).toNatClampNeg)) (hI h_726)) (fun x_738 I_739 => zlet (zsFI h_726 (jF h_726) I_739) (fun h_740 => zg (zMok (hK h_740) (jF h_740)) (zka (hK h_740) 1860 6 (fun n_743 => zb1 (F_X7_thrown (hI h_740)) (fun x_746 => if x_746 = x_725 then if ¬ x_725 = 0 then zlet (v4_21 + 6) (fun v4_747 => some ((0, 0), .inl (v4_747, h_740))) else zka (hK h_740) o_19 67 (fun n_749 => zg (zin 0 n_749) (if (lg_cmp ((hL h_740) o_19 0) x_738.toInt64) = 0 then zlet (v4_21 + 6) (fun v4_752 => some ((0, 0), .inl (v4_752, h_740))) else some ((0, 0), .inr (.inr (0, h_740))))) else some ((0, 0), .inr (.inr (0, h_740)))))))))))))))))))) else if (((hI h_22) a0 v4_21.toNatClampNeg) &&& (63 : Int32)) = 26 then zg (zin (v4_21 + 1) n_23) (zg (zin (v4_21 + 2) n_23) (zg (zin (v4_21 + 3) n_23) (zc1 (F_X0_where o_4 ((hI h_22) a0 ((v4_21 + 1).toNatClampNeg)) ((hI h_22) a0 ((v4_21 + 2).toNatClampNeg)) ((hI h_22) a0 ((v4_21 + 3).toNatClampNeg)) o_19 h_22) (fun c_760 => zn2 (fun x_758 h_759 => zpay c_760 (zka (hK h_759) a0 64 (fun n_762 => zg (zin (v4_21 + 1) n_762) (zg (zin (v4_21 + 2) n_762) (zg (zin (v4_21 + 3) n_762) (zg (zMok (hK h_759) (jF h_759)) (zka (hK h_759) 1860 6 (fun n_768 => zb2 (F_X7_where ((hI h_759) a0 ((v4_21 + 1).toNatClampNeg)) ((hI h_759) a0 ((v4_21 + 2).toNatClampNeg)) ((hI h_759) a0 ((v4_21 + 3).toNatClampNeg)) (hI h_759)) (fun x_771 I_772 => zlet (zsFI h_759 (jF h_759) I_772) (fun h_773 => zg (zMok (hK h_773) (jF h_773)) (zka (hK h_773) 1860 6 (fun n_776 => zb1 (F_X7_thrown (hI h_773)) (fun x_779 => if x_779 = x_758 then if ¬ x_758 = 0 then zlet (v4_21 + 6) (fun v4_780 => some ((0, 0), .inl (v4_780, h_773))) else zka (hK h_773) o_19 67 (fun n_782 => zg (zin 0 n_782) (if (lg_cmp ((hL h_773) o_19 0) x_771.toInt64) = 0 then zlet (v4_21 + 6) (fun v4_785 => some ((0, 0), .inl (v4_785, h_773))) else some ((0, 0), .inr (.inr (0, h_773))))) else some ((0, 0), .inr (.inr (0, h_773)))))))))))))))))))) else if (((hI h_22) a0 v4_21.toNatClampNeg) &&& (63 : Int32)) = 27 then zg (zin (v4_21 + 1) n_23) (zg (zin (v4_21 + 2) n_23) (zc1 (F_X0_counted o_4 ((hI h_22) a0 ((v4_21 + 1).toNatClampNeg)) ((hI h_22) a0 ((v4_21 + 2).toNatClampNeg)) o_19 h_22) (fun c_792 => zn2 (fun x_790 h_791 => zpay c_792 (zka (hK h_791) a0 64 (fun n_794 => zg (zin (v4_21 + 1) n_794) (zg (zin (v4_21 + 2) n_794) (zg (zMok (hK h_791) (jF h_791)) (zka (hK h_791) 1860 6 (fun n_799 => zb2 (F_X7_counted ((hI h_791) a0 ((v4_21 + 1).toNatClampNeg)) ((hI h_791) a0 ((v4_21 + 2).toNatClampNeg)) (hI h_791)) (fun x_802 I_803 => zlet (zsFI h_791 (jF h_791) I_803) (fun h_804 => zg (zMok (hK h_804) (jF h_804)) (zka (hK h_804) 1860 6 (fun n_807 => zb1 (F_X7_thrown (hI h_804)) (fun x_810 => if x_810 = x_790 then if ¬ x_790 = 0 then zlet (v4_21 + 6) (fun v4_811 => some ((0, 0), .inl (v4_811, h_804))) else zka (hK h_804) o_19 67 (fun n_813 => zg (zin 0 n_813) (if (lg_cmp ((hL h_804) o_19 0) x_802.toInt64) = 0 then zlet (v4_21 + 6) (fun v4_816 => some ((0, 0), .inl (v4_816, h_804))) else some ((0, 0), .inr (.inr (0, h_804))))) else some ((0, 0), .inr (.inr (0, h_804)))))))))))))))))) else if (((hI h_22) a0 v4_21.toNatClampNeg) &&& (63 : Int32)) = 28 then zg (zin (v4_21 + 1) n_23) (zg (zin (v4_21 + 2) n_23) (zg (zin (v4_21 + 3) n_23) (zc1 (F_X0_spy o_4 ((hI h_22) a0 ((v4_21 + 1).toNatClampNeg)) ((hI h_22) a0 ((v4_21 + 2).toNatClampNeg)) ((hI h_22) a0 ((v4_21 + 3).toNatClampNeg)) o_19 h_22) (fun c_824 => zn2 (fun x_822 h_823 => zpay c_824 (zka (hK h_823) a0 64 (fun n_826 => zg (zin (v4_21 + 1) n_826) (zg (zin (v4_21 + 2) n_826) (zg (zin (v4_21 + 3) n_826) (zg (zMok (hK h_823) (jF h_823)) (zka (hK h_823) 1860 6 (fun n_832 => zb2 (F_X7_spy ((hI h_823) a0 ((v4_21 + 1).toNatClampNeg)) ((hI h_823) a0 ((v4_21 + 2).toNatClampNeg)) ((hI h_823) a0 ((v4_21 + 3).toNatClampNeg)) (hI h_823)) (fun x_835 I_836 => zlet (zsFI h_823 (jF h_823) I_836) (fun h_837 => zg (zMok (hK h_837) (jF h_837)) (zka (hK h_837) 1860 6 (fun n_840 => zb1 (F_X7_thrown (hI h_837)) (fun x_843 => if x_843 = x_822 then if ¬ x_822 = 0 then zlet (v4_21 + 6) (fun v4_844 => some ((0, 0), .inl (v4_844, h_837))) else zka (hK h_837) o_19 67 (fun n_846 => zg (zin 0 n_846) (if (lg_cmp ((hL h_837) o_19 0) x_835.toInt64) = 0 then zlet (v4_21 + 6) (fun v4_849 => some ((0, 0), .inl (v4_849, h_837))) else some ((0, 0), .inr (.inr (0, h_837))))) else some ((0, 0), .inr (.inr (0, h_837)))))))))))))))))))) else if (((hI h_22) a0 v4_21.toNatClampNeg) &&& (63 : Int32)) = 29 then zg (zin (v4_21 + 1) n_23) (zc1 (F_X0_hidden o_4 ((hI h_22) a0 ((v4_21 + 1).toNatClampNeg)) o_19 h_22) (fun c_855 => zn2 (fun x_853 h_854 => zpay c_855 (zka (hK h_854) a0 64 (fun n_857 => zg (zin (v4_21 + 1) n_857) (zg (zMok (hK h_854) (jF h_854)) (zka (hK h_854) 1860 6 (fun n_861 => zb2 (F_X7_hidden ((hI h_854) a0 ((v4_21 + 1).toNatClampNeg)) (hI h_854)) (fun x_864 I_865 => zlet (zsFI h_854 (jF h_854) I_865) (fun h_866 => zg (zMok (hK h_866) (jF h_866)) (zka (hK h_866) 1860 6 (fun n_869 => zb1 (F_X7_thrown (hI h_866)) (fun x_872 => if x_872 = x_853 then if ¬ x_853 = 0 then zlet (v4_21 + 6) (fun v4_873 => some ((0, 0), .inl (v4_873, h_866))) else zka (hK h_866) o_19 67 (fun n_875 => zg (zin 0 n_875) (if (lg_cmp ((hL h_866) o_19 0) x_864.toInt64) = 0 then zlet (v4_21 + 6) (fun v4_878 => some ((0, 0), .inl (v4_878, h_866))) else some ((0, 0), .inr (.inr (0, h_866))))) else some ((0, 0), .inr (.inr (0, h_866)))))))))))))))) else if (((hI h_22) a0 v4_21.toNatClampNeg) &&& (63 : Int32)) = 30 then zg (zin (v4_21 + 1) n_23) (zc1 (F_X0_look o_4 ((hI h_22) a0 ((v4_21 + 1).toNatClampNeg)) o_19 h_22) (fun c_884 => zn2 (fun x_882 h_883 => zpay c_884 (zka (hK h_883) a0 64 (fun n_886 => zg (zin (v4_21 + 1) n_886) (zg (zMok (hK h_883) (jF h_883)) (zka (hK h_883) 1860 6 (fun n_890 => zb2 (F_X7_look ((hI h_883) a0 ((v4_21 + 1).toNatClampNeg)) (hI h_883)) (fun x_893 I_894 => zlet (zsFI h_883 (jF h_883) I_894) (fun h_895 => zg (zMok (hK h_895) (jF h_895)) (zka (hK h_895) 1860 6 (fun n_898 => zb1 (F_X7_thrown (hI h_895)) (fun x_901 => if x_901 = x_882 then if ¬ x_882 = 0 then zlet (v4_21 + 6) (fun v4_902 => some ((0, 0), .inl (v4_902, h_895))) else zka (hK h_895) o_19 67 (fun n_904 => zg (zin 0 n_904) (if (lg_cmp ((hL h_895) o_19 0) x_893.toInt64) = 0 then zlet (v4_21 + 6) (fun v4_907 => some ((0, 0), .inl (v4_907, h_895))) else some ((0, 0), .inr (.inr (0, h_895))))) else some ((0, 0), .inr (.inr (0, h_895)))))))))))))))) else if (((hI h_22) a0 v4_21.toNatClampNeg) &&& (63 : Int32)) = 31 then zka (hK h_22) o_4 0 (fun n_909 => zb1 (F_X1_forget (hK h_22) (jF h_22) o_4 (hI h_22)) (fun I_912 => zlet (zsFI h_22 (jF h_22) I_912) (fun h_913 => zg (zMok (hK h_913) (jF h_913)) (zka (hK h_913) 1860 6 (fun n_916 => zb1 (F_X7_forget (hI h_913)) (fun I_919 => zlet (zsFI h_913 (jF h_913) I_919) (fun h_920 => zlet (v4_21 + 6) (fun v4_922 => some ((0, 0), .inl (v4_922, h_920)))))))))) else if (((hI h_22) a0 v4_21.toNatClampNeg) &&& (63 : Int32)) = 32 then zg (zin (v4_21 + 1) n_23) (zg (zin (v4_21 + 2) n_23) (zg (zin (v4_21 + 3) n_23) (zg (zin (v4_21 + 4) n_23) (zg (zin (v4_21 + 5) n_23) (zc1 (F_X0_game o_4 ((hI h_22) a0 ((v4_21 + 1).toNatClampNeg)) ((hI h_22) a0 ((v4_21 + 2).toNatClampNeg)) ((hI h_22) a0 ((v4_21 + 3).toNatClampNeg)) ((hI h_22) a0 ((v4_21 + 4).toNatClampNeg)) ((hI h_22) a0 ((v4_21 + 5).toNatClampNeg)) o_19 h_22) (fun c_932 => zn2 (fun x_930 h_931 => zpay c_932 (zka (hK h_931) a0 64 (fun n_934 => zg (zin (v4_21 + 1) n_934) (zg (zin (v4_21 + 2) n_934) (zg (zin (v4_21 + 3) n_934) (zg (zin (v4_21 + 4) n_934) (zg (zin (v4_21 + 5) n_934) (zg (zMok (hK h_931) (jF h_931)) (zka (hK h_931) 1860 6 (fun n_942 => zb2 (F_X7_game ((hI h_931) a0 ((v4_21 + 1).toNatClampNeg)) ((hI h_931) a0 ((v4_21 + 2).toNatClampNeg)) ((hI h_931) a0 ((v4_21 + 3).toNatClampNeg)) ((hI h_931) a0 ((v4_21 + 4).toNatClampNeg)) ((hI h_931) a0 ((v4_21 + 5).toNatClampNeg)) (hI h_931)) (fun x_945 I_946 => zlet (zsFI h_931 (jF h_931) I_946) (fun h_947 => zg (zMok (hK h_947) (jF h_947)) (zka (hK h_947) 1860 6 (fun n_950 => zb1 (F_X7_thrown (hI h_947)) (fun x_953 => if x_953 = x_930 then if ¬ x_930 = 0 then zlet (v4_21 + 6) (fun v4_954 => some ((0, 0), .inl (v4_954, h_947))) else zka (hK h_947) o_19 67 (fun n_956 => zg (zin 0 n_956) (if (lg_cmp ((hL h_947) o_19 0) x_945.toInt64) = 0 then zlet (v4_21 + 6) (fun v4_959 => some ((0, 0), .inl (v4_959, h_947))) else some ((0, 0), .inr (.inr (0, h_947))))) else some ((0, 0), .inr (.inr (0, h_947)))))))))))))))))))))))) else if (((hI h_22) a0 v4_21.toNatClampNeg) &&& (63 : Int32)) = 33 then zg (zin (v4_21 + 1) n_23) (zg (zin (v4_21 + 2) n_23) (zg (zin (v4_21 + 3) n_23) (zc1 (F_X0_winter o_4 ((hI h_22) a0 ((v4_21 + 1).toNatClampNeg)) ((hI h_22) a0 ((v4_21 + 2).toNatClampNeg)) ((hI h_22) a0 ((v4_21 + 3).toNatClampNeg)) o_19 h_22) (fun c_967 => zn2 (fun x_965 h_966 => zpay c_967 (zka (hK h_966) a0 64 (fun n_969 => zg (zin (v4_21 + 1) n_969) (zg (zin (v4_21 + 2) n_969) (zg (zin (v4_21 + 3) n_969) (zg (zMok (hK h_966) (jF h_966)) (zka (hK h_966) 1860 6 (fun n_975 => zb2 (F_X7_winter ((hI h_966) a0 ((v4_21 + 1).toNatClampNeg)) ((hI h_966) a0 ((v4_21 + 2).toNatClampNeg)) ((hI h_966) a0 ((v4_21 + 3).toNatClampNeg)) (hI h_966)) (fun x_978 I_979 => zlet (zsFI h_966 (jF h_966) I_979) (fun h_980 => zg (zMok (hK h_980) (jF h_980)) (zka (hK h_980) 1860 6 (fun n_983 => zb1 (F_X7_thrown (hI h_980)) (fun x_986 => if x_986 = x_965 then if ¬ x_965 = 0 then zlet (v4_21 + 6) (fun v4_987 => some ((0, 0), .inl (v4_987, h_980))) else zka (hK h_980) o_19 67 (fun n_989 => zg (zin 0 n_989) (if (lg_cmp ((hL h_980) o_19 0) x_978.toInt64) = 0 then zlet (v4_21 + 6) (fun v4_992 => some ((0, 0), .inl (v4_992, h_980))) else some ((0, 0), .inr (.inr (0, h_980))))) else some ((0, 0), .inr (.inr (0, h_980)))))))))))))))))))) else if (((hI h_22) a0 v4_21.toNatClampNeg) &&& (63 : Int32)) = 34 then zka (hK h_22) o_4 0 (fun n_994 => zb1 (F_X1_image (hK h_22) (jF h_22) o_4 (hI h_22)) (fun I_997 => zlet (zsFI h_22 (jF h_22) I_997) (fun h_998 => zg (zMok (hK h_998) (jF h_998)) (zka (hK h_998) 1860 6 (fun n_1001 => zb1 (F_X7_image (hI h_998)) (fun I_1004 => zlet (zsFI h_998 (jF h_998) I_1004) (fun h_1005 => zlet (v4_21 + 6) (fun v4_1007 => some ((0, 0), .inl (v4_1007, h_1005)))))))))) else if (((hI h_22) a0 v4_21.toNatClampNeg) &&& (63 : Int32)) = 35 then zka (hK h_22) o_4 0 (fun n_1009 => zb2 (F_X1_restore (hK h_22) (jF h_22) o_4 (hI h_22)) (fun x_1012 I_1013 => zlet (zsFI h_22 (jF h_22) I_1013) (fun h_1014 => zg (zMok (hK h_1014) (jF h_1014)) (zka (hK h_1014) 1860 6 (fun n_1017 => zb2 (F_X7_restore (hI h_1014)) (fun x_1020 I_1021 => zlet (zsFI h_1014 (jF h_1014) I_1021) (fun h_1022 => if x_1012 = x_1020 then zlet (v4_21 + 6) (fun v4_1024 => some ((0, 0), .inl (v4_1024, h_1022))) else some ((0, 0), .inr (.inr (0, h_1022)))))))))) else zlet (v4_21 + 6) (fun v4_1026 => some ((0, 0), .inl (v4_1026, h_22)))))
noncomputable def F_L_law (a0 : Nat) (h : zSt) : Option ((Nat × Nat) × (Int32 × zSt)) := zpay (1, 12) (zg (zfree h) (zlet (hN h) (fun o_4 => zlet (znA h 0 0) (fun h_2 => zc1 (F_X1_init o_4 h_2) (fun c_8 h_7 => zpay c_8 (zpay (1, 63) (zg (decide (hN h_7 = 1860)) (zg (zfree h_7) (zlet (znA h_7 6 0) (fun h_11 => zc1 (F_X7_init 1860 h_11) (fun c_15 h_14 => zpay c_15 (zpay (1, 1) (zg (zfree h_14) (zlet (hN h_14) (fun o_19 => zlet (znA h_14 67 1) (fun h_17 => zcs (zloopC (fun s : Int32 × zSt => F_L_law_L23 a0 o_4 o_19 s.1 s.2) (0, h_17)) (fun c_1030 t_1031 => zpay c_1030 ((fun h_1028 => some ((0, 0), (1, h_1028))) t_1031)) (fun c_1030 z_1033 => zpay c_1030 (some ((0, 0), z_1033)))))))))))))))))))
set_option maxHeartbeats 1000000 in
theorem W_L_law_L23 {l : Launch} {G : zGt} (htr : l.stackTraces = false) {Q : zQt} {mE wE : Nat} {cc : Nat × Nat} {a0 : Nat} {o_4 : Nat} {o_19 : Nat} {v4_21 : Int32} {h_22 : zSt} {r : (Int32 × zSt) ⊕ ((zSt) ⊕ (Int32 × zSt))} (hF : F_L_law_L23 a0 o_4 o_19 v4_21 h_22 = some (cc, r)) (kl : ∀ (z0 : Int32) (z1 : zSt), r = .inl (z0, z1) → zW l G ML_law 1028 24169 mE wE 23 [(0, .ref a0), (1, .ref o_4), (2, .ref 1860), (3, .ref o_19), (4, .int z0)] [] (hK z1) (jF z1) (hI z1) (hL z1) Q) (kx : ∀ (y0 : zSt), r = .inr (.inl y0) → zW l G ML_law 1028 24169 mE wE 2222 [] [] (hK y0) (jF y0) (hI y0) (hL y0) Q) (kq : ∀ z : Int32 × zSt, r = .inr (.inr z) → Q (.inl (some (.int z.1))) (hK z.2) (jF z.2) (hI z.2) (hL z.2)) : zW l G ML_law 1028 24169 (cc.1 + mE) (cc.2 + wE) 23 [(0, .ref a0), (1, .ref o_4), (2, .ref 1860), (3, .ref o_19), (4, .int v4_21)] [] (hK h_22) (jF h_22) (hI h_22) (hL h_22) Q := by
  unfold F_L_law_L23 at hF
  refine z_iload (n := 25) dL_law_23 rfl 4 rfl ?_
  refine z_aload_n (n := 26) dL_law_25 rfl 0 rfl rfl ?_
  obtain ⟨n_23, hk_24, hF⟩ := zka_some hF
  refine z_alen (n := 27) 0 (by decide) dL_law_26 rfl hk_24 ?_
  refine z_bipush (n := 29) (v := 6) dL_law_27 rfl (by decide) ?_
  refine z_isub (n := 30) dL_law_29 rfl ?_
  refine z_icmp_gt (n := 33) (t := 2222) dL_law_30 rfl (by decide) (fun hc => ?_) (fun hc => ?_)
  · replace hF := (if_pos hc).symm.trans hF
    refine z_sub [] rfl ?_
    obtain ⟨rfl, rfl⟩ := zpair hF
    refine z_eq (Nat.zero_add _) (Nat.zero_add _) ?_
    exact kx h_22 rfl
  · replace hF := (if_neg hc).symm.trans hF
    refine z_aload_n (n := 34) dL_law_33 rfl 0 rfl rfl ?_
    refine z_iload (n := 36) dL_law_34 rfl 4 rfl ?_
    obtain ⟨h_25, hF⟩ := zg_some hF
    refine z_ialdK (n := 37) v4_21.toNatClampNeg rfl dL_law_36 rfl hk_24 (zin_ok h_25) ?_
    refine z_bipush (n := 39) (v := 63) dL_law_37 rfl (by decide) ?_
    refine z_iand (n := 40) dL_law_39 rfl ?_
    by_cases ht0 : (((hI h_22) a0 v4_21.toNatClampNeg) &&& (63 : Int32)) = 0
    · replace hF := (if_pos ht0).symm.trans hF
      refine z_tableIn (off := 160) (t := 200) dL_law_40 (by rw [ht0]; decide) (by rw [ht0]; decide) (by rw [ht0]; rfl) (by decide) ?_
      refine z_aload_n (n := 201) dL_law_200 rfl 1 rfl rfl ?_
      refine z_aload_n (n := 202) dL_law_201 rfl 0 rfl rfl ?_
      refine z_iload (n := 204) dL_law_202 rfl 4 rfl ?_
      refine z_iconst (n := 205) (v := 1) dL_law_204 rfl (by decide) ?_
      refine z_iadd (n := 206) dL_law_205 rfl ?_
      obtain ⟨h_26, hF⟩ := zg_some hF
      refine z_ialdK (n := 207) ((v4_21 + 1).toNatClampNeg) rfl dL_law_206 rfl hk_24 (zin_ok h_26) ?_
      refine z_aload_n (n := 208) dL_law_207 rfl 0 rfl rfl ?_
      refine z_iload (n := 210) dL_law_208 rfl 4 rfl ?_
      refine z_iconst (n := 211) (v := 2) dL_law_210 rfl (by decide) ?_
      refine z_iadd (n := 212) dL_law_211 rfl ?_
      obtain ⟨h_27, hF⟩ := zg_some hF
      refine z_ialdK (n := 213) ((v4_21 + 2).toNatClampNeg) rfl dL_law_212 rfl hk_24 (zin_ok h_27) ?_
      refine z_aload_n (n := 214) dL_law_213 rfl 0 rfl rfl ?_
      refine z_iload (n := 216) dL_law_214 rfl 4 rfl ?_
      refine z_iconst (n := 217) (v := 3) dL_law_216 rfl (by decide) ?_
      refine z_iadd (n := 218) dL_law_217 rfl ?_
      obtain ⟨h_28, hF⟩ := zg_some hF
      refine z_ialdK (n := 219) ((v4_21 + 3).toNatClampNeg) rfl dL_law_218 rfl hk_24 (zin_ok h_28) ?_
      refine z_aload_n (n := 220) dL_law_219 rfl 0 rfl rfl ?_
      refine z_iload (n := 222) dL_law_220 rfl 4 rfl ?_
      refine z_iconst (n := 223) (v := 4) dL_law_222 rfl (by decide) ?_
      refine z_iadd (n := 224) dL_law_223 rfl ?_
      obtain ⟨h_29, hF⟩ := zg_some hF
      refine z_ialdK (n := 225) ((v4_21 + 4).toNatClampNeg) rfl dL_law_224 rfl hk_24 (zin_ok h_29) ?_
      refine z_aload_n (n := 226) dL_law_225 rfl 0 rfl rfl ?_
      refine z_iload (n := 228) dL_law_226 rfl 4 rfl ?_
      refine z_iconst (n := 229) (v := 5) dL_law_228 rfl (by decide) ?_
      refine z_iadd (n := 230) dL_law_229 rfl ?_
      obtain ⟨h_30, hF⟩ := zg_some hF
      refine z_ialdK (n := 231) ((v4_21 + 5).toNatClampNeg) rfl dL_law_230 rfl hk_24 (zin_ok h_30) ?_
      obtain ⟨n_31, hk_32, hF⟩ := zka_some hF
      obtain ⟨x_34, I_35, c_33, hF⟩ := zb2_some hF
      refine z_cV (n := 234) (mc2 := (cc.1 + mE)) (ms2 := (cc.2 + wE)) (st := []) (C_X1_feed htr c_33) dL_law_231 rfl (lw_V q770 q771 q772 q105 q773) hcee_X1_feed rfl (by decide) hk_32 rfl rfl rfl (Nat.le_of_ble_eq_true rfl) (Nat.le_refl _) (Nat.le_refl _) ?_
      obtain ⟨h_36, e_37, hF⟩ := zlet_ob hF
      refine z_toFI e_37 ?_
      refine z_aload_n (n := 235) dL_law_234 rfl 2 rfl rfl ?_
      refine z_aload_n (n := 236) dL_law_235 rfl 0 rfl rfl ?_
      refine z_iload (n := 238) dL_law_236 rfl 4 rfl ?_
      refine z_iconst (n := 239) (v := 1) dL_law_238 rfl (by decide) ?_
      refine z_iadd (n := 240) dL_law_239 rfl ?_
      obtain ⟨n_38, hk_39, hF⟩ := zka_some hF
      obtain ⟨h_40, hF⟩ := zg_some hF
      refine z_ialdK (n := 241) ((v4_21 + 1).toNatClampNeg) rfl dL_law_240 rfl hk_39 (zin_ok h_40) ?_
      refine z_aload_n (n := 242) dL_law_241 rfl 0 rfl rfl ?_
      refine z_iload (n := 244) dL_law_242 rfl 4 rfl ?_
      refine z_iconst (n := 245) (v := 2) dL_law_244 rfl (by decide) ?_
      refine z_iadd (n := 246) dL_law_245 rfl ?_
      obtain ⟨h_41, hF⟩ := zg_some hF
      refine z_ialdK (n := 247) ((v4_21 + 2).toNatClampNeg) rfl dL_law_246 rfl hk_39 (zin_ok h_41) ?_
      refine z_aload_n (n := 248) dL_law_247 rfl 0 rfl rfl ?_
      refine z_iload (n := 250) dL_law_248 rfl 4 rfl ?_
      refine z_iconst (n := 251) (v := 3) dL_law_250 rfl (by decide) ?_
      refine z_iadd (n := 252) dL_law_251 rfl ?_
      obtain ⟨h_42, hF⟩ := zg_some hF
      refine z_ialdK (n := 253) ((v4_21 + 3).toNatClampNeg) rfl dL_law_252 rfl hk_39 (zin_ok h_42) ?_
      refine z_aload_n (n := 254) dL_law_253 rfl 0 rfl rfl ?_
      refine z_iload (n := 256) dL_law_254 rfl 4 rfl ?_
      refine z_iconst (n := 257) (v := 4) dL_law_256 rfl (by decide) ?_
      refine z_iadd (n := 258) dL_law_257 rfl ?_
      obtain ⟨h_43, hF⟩ := zg_some hF
      refine z_ialdK (n := 259) ((v4_21 + 4).toNatClampNeg) rfl dL_law_258 rfl hk_39 (zin_ok h_43) ?_
      refine z_aload_n (n := 260) dL_law_259 rfl 0 rfl rfl ?_
      refine z_iload (n := 262) dL_law_260 rfl 4 rfl ?_
      refine z_iconst (n := 263) (v := 5) dL_law_262 rfl (by decide) ?_
      refine z_iadd (n := 264) dL_law_263 rfl ?_
      obtain ⟨h_44, hF⟩ := zg_some hF
      refine z_ialdK (n := 265) ((v4_21 + 5).toNatClampNeg) rfl dL_law_264 rfl hk_39 (zin_ok h_44) ?_
      obtain ⟨hm_45, hF⟩ := zg_some hF
      obtain ⟨n_46, hk_47, hF⟩ := zka_some hF
      obtain ⟨x_49, I_50, c_48, hF⟩ := zb2_some hF
      refine z_cV (n := 268) (mc2 := (cc.1 + mE)) (ms2 := (cc.2 + wE)) (st := [.int x_34]) (C_X7_feed htr (zMok_ok hm_45) c_48) dL_law_265 rfl (lw_V q1871 q1872 q1873 q131 q1874) hcee_X7_feed rfl (by decide) hk_47 rfl rfl rfl (Nat.le_of_ble_eq_true rfl) (Nat.le_refl _) (Nat.le_refl _) ?_
      obtain ⟨h_51, e_52, hF⟩ := zlet_ob hF
      refine z_toFI e_52 ?_
      refine z_icmp_eq (n := 271) (t := 2216) dL_law_268 rfl (by decide) (fun hc => ?_) (fun hc => ?_)
      · replace hF := (if_pos hc).symm.trans hF
        obtain ⟨v4_53, e_54, hF⟩ := zlet_ob hF
        refine z_iincE (n := 2219) (w := 6) (v := v4_53) (lv' := [(4, .int v4_53), (0, .ref a0), (1, .ref o_4), (2, .ref 1860), (3, .ref o_19)]) dL_law_2216 rfl 4 rfl (by decide) e_54 (by decide) rfl ?_
        refine z_goto (t := 23) dL_law_2219 (by decide) ?_
        refine z_sub [1, 2, 3, 4, 0] rfl ?_
        obtain ⟨rfl, rfl⟩ := zpair hF
        refine z_eq (Nat.zero_add _) (Nat.zero_add _) ?_
        exact kl v4_53 h_51 rfl
      · replace hF := (if_neg hc).symm.trans hF
        refine z_iconst (n := 272) (v := 0) dL_law_271 rfl (by decide) ?_
        obtain ⟨rfl, rfl⟩ := zpair hF
        exact z_iret dL_law_272 rfl rfl (kq _ rfl)
    replace hF := (if_neg ht0).symm.trans hF
    by_cases ht1 : (((hI h_22) a0 v4_21.toNatClampNeg) &&& (63 : Int32)) = 1
    · replace hF := (if_pos ht1).symm.trans hF
      refine z_tableIn (off := 233) (t := 273) dL_law_40 (by rw [ht1]; decide) (by rw [ht1]; decide) (by rw [ht1]; rfl) (by decide) ?_
      refine z_aload_n (n := 274) dL_law_273 rfl 1 rfl rfl ?_
      refine z_aload_n (n := 275) dL_law_274 rfl 0 rfl rfl ?_
      refine z_iload (n := 277) dL_law_275 rfl 4 rfl ?_
      refine z_iconst (n := 278) (v := 1) dL_law_277 rfl (by decide) ?_
      refine z_iadd (n := 279) dL_law_278 rfl ?_
      obtain ⟨h_55, hF⟩ := zg_some hF
      refine z_ialdK (n := 280) ((v4_21 + 1).toNatClampNeg) rfl dL_law_279 rfl hk_24 (zin_ok h_55) ?_
      refine z_aload_n (n := 281) dL_law_280 rfl 3 rfl rfl ?_
      obtain ⟨c_59, t_60, c_56, hF⟩ := zc1_some hF
      obtain ⟨x_57, h_58⟩ := t_60
      dsimp only [zn2] at hF
      obtain ⟨cc, hF, hcc⟩ := zpay_some hF
      refine z_payE hcc ?_
      refine z_cSH (n := 284) (mc2 := (cc.1 + mE)) (ms2 := (cc.2 + wE)) (st := []) (C_X0_land htr c_56) dL_law_281 rfl (lw_SW q945 q946 q104 q947) hcee_X0_land rfl (by decide) rfl (Nat.le_of_ble_eq_true rfl) (Nat.le_of_eq (Nat.add_comm _ _)) (Nat.le_of_eq (Nat.add_comm _ _)) ?_
      refine z_istoreE (n := 286) (lv' := [(5, .int x_57), (0, .ref a0), (1, .ref o_4), (2, .ref 1860), (3, .ref o_19), (4, .int v4_21)]) dL_law_284 rfl rfl (by decide) rfl ?_
      refine z_aload_n (n := 287) dL_law_286 rfl 3 rfl rfl ?_
      refine z_aload_n (n := 288) dL_law_287 rfl 1 rfl rfl ?_
      refine z_iload (n := 290) dL_law_288 rfl 5 rfl ?_
      refine z_iconst (n := 291) (v := 1) dL_law_290 rfl (by decide) ?_
      refine z_iadd (n := 292) dL_law_291 rfl ?_
      obtain ⟨n_61, hk_62, hF⟩ := zka_some hF
      obtain ⟨h_63, hF⟩ := zg_some hF
      refine z_ialdK (n := 293) ((v4_21 + 1).toNatClampNeg) rfl dL_law_292 rfl hk_62 (zin_ok h_63) ?_
      obtain ⟨hm_64, hF⟩ := zg_some hF
      obtain ⟨n_65, hk_66, hF⟩ := zka_some hF
      obtain ⟨x_68, I_69, c_67, hF⟩ := zb2_some hF
      refine z_cV (n := 296) (mc2 := (cc.1 + mE)) (ms2 := (cc.2 + wE)) (st := []) (C_X7_land htr (zMok_ok hm_64) c_67) dL_law_293 rfl (lw_V q1875 q1876 q1877 q131 q1878) hcee_X7_land rfl (by decide) hk_66 rfl rfl rfl (Nat.le_of_ble_eq_true rfl) (Nat.le_refl _) (Nat.le_refl _) ?_
      obtain ⟨h_70, e_71, hF⟩ := zlet_ob hF
      refine z_toFI e_71 ?_
      refine z_istoreE (n := 298) (lv' := [(6, .int x_68), (5, .int x_57), (0, .ref a0), (1, .ref o_4), (2, .ref 1860), (3, .ref o_19), (4, .int v4_21)]) dL_law_296 rfl rfl (by decide) rfl ?_
      refine z_aload_n (n := 299) dL_law_298 rfl 4 rfl rfl ?_
      obtain ⟨hm_72, hF⟩ := zg_some hF
      obtain ⟨n_73, hk_74, hF⟩ := zka_some hF
      obtain ⟨x_76, c_75, hF⟩ := zb1_some hF
      refine z_cV (n := 302) (mc2 := (cc.1 + mE)) (ms2 := (cc.2 + wE)) (st := []) (C_X7_thrown htr (zMok_ok hm_72) c_75) dL_law_299 rfl (lw_V q1867 q1868 q1869 q131 q1870) hcee_X7_thrown rfl (by decide) hk_74 rfl rfl rfl (Nat.le_of_ble_eq_true rfl) (Nat.le_refl _) (Nat.le_refl _) ?_
      refine z_iload (n := 304) dL_law_302 rfl 1 rfl ?_
      refine z_icmp_eq (n := 307) (t := 309) dL_law_304 rfl (by decide) (fun hc => ?_) (fun hc => ?_)
      · replace hF := (if_pos hc).symm.trans hF
        refine z_iload (n := 311) dL_law_309 rfl 1 rfl ?_
        refine z_if_ne (n := 314) (t := 326) dL_law_311 rfl (by decide) (fun hc => ?_) (fun hc => ?_)
        · replace hF := (if_pos hc).symm.trans hF
          refine z_goto (t := 2216) dL_law_326 (by decide) ?_
          obtain ⟨v4_77, e_78, hF⟩ := zlet_ob hF
          refine z_iincE (n := 2219) (w := 6) (v := v4_77) (lv' := [(4, .int v4_77), (6, .int x_68), (5, .int x_57), (0, .ref a0), (1, .ref o_4), (2, .ref 1860), (3, .ref o_19)]) dL_law_2216 rfl 6 rfl (by decide) e_78 (by decide) rfl ?_
          refine z_goto (t := 23) dL_law_2219 (by decide) ?_
          refine z_sub [3, 4, 5, 6, 0] rfl ?_
          obtain ⟨rfl, rfl⟩ := zpair hF
          refine z_eq (Nat.zero_add _) (Nat.zero_add _) ?_
          exact kl v4_77 h_70 rfl
        · replace hF := (if_neg hc).symm.trans hF
          refine z_aload_n (n := 315) dL_law_314 rfl 5 rfl rfl ?_
          refine z_iconst (n := 316) (v := 0) dL_law_315 rfl (by decide) ?_
          obtain ⟨n_79, hk_80, hF⟩ := zka_some hF
          obtain ⟨h_81, hF⟩ := zg_some hF
          refine z_laldK (n := 317) 0 (by decide) dL_law_316 rfl hk_80 (zin_ok h_81) ?_
          refine z_iload (n := 319) dL_law_317 rfl 0 rfl ?_
          refine z_i2l (n := 320) dL_law_319 rfl ?_
          refine z_lcmp (n := 321) dL_law_320 rfl ?_
          refine z_if_eq (n := 324) (t := 326) dL_law_321 rfl (by decide) (fun hc => ?_) (fun hc => ?_)
          · replace hF := (if_pos hc).symm.trans hF
            refine z_goto (t := 2216) dL_law_326 (by decide) ?_
            obtain ⟨v4_82, e_83, hF⟩ := zlet_ob hF
            refine z_iincE (n := 2219) (w := 6) (v := v4_82) (lv' := [(4, .int v4_82), (6, .int x_68), (5, .int x_57), (0, .ref a0), (1, .ref o_4), (2, .ref 1860), (3, .ref o_19)]) dL_law_2216 rfl 6 rfl (by decide) e_83 (by decide) rfl ?_
            refine z_goto (t := 23) dL_law_2219 (by decide) ?_
            refine z_sub [3, 4, 5, 6, 0] rfl ?_
            obtain ⟨rfl, rfl⟩ := zpair hF
            refine z_eq (Nat.zero_add _) (Nat.zero_add _) ?_
            exact kl v4_82 h_70 rfl
          · replace hF := (if_neg hc).symm.trans hF
            refine z_iconst (n := 325) (v := 0) dL_law_324 rfl (by decide) ?_
            obtain ⟨rfl, rfl⟩ := zpair hF
            exact z_iret dL_law_325 rfl rfl (kq _ rfl)
      · replace hF := (if_neg hc).symm.trans hF
        refine z_iconst (n := 308) (v := 0) dL_law_307 rfl (by decide) ?_
        obtain ⟨rfl, rfl⟩ := zpair hF
        exact z_iret dL_law_308 rfl rfl (kq _ rfl)
    replace hF := (if_neg ht1).symm.trans hF
    by_cases ht2 : (((hI h_22) a0 v4_21.toNatClampNeg) &&& (63 : Int32)) = 2
    · replace hF := (if_pos ht2).symm.trans hF
      refine z_tableIn (off := 289) (t := 329) dL_law_40 (by rw [ht2]; decide) (by rw [ht2]; decide) (by rw [ht2]; rfl) (by decide) ?_
      refine z_aload_n (n := 330) dL_law_329 rfl 1 rfl rfl ?_
      obtain ⟨n_84, hk_85, hF⟩ := zka_some hF
      obtain ⟨x_87, c_86, hF⟩ := zb1_some hF
      refine z_cV (n := 333) (mc2 := (cc.1 + mE)) (ms2 := (cc.2 + wE)) (st := []) (C_X1_fault htr c_86) dL_law_330 rfl (lw_V q778 q779 q780 q105 q781) hcee_X1_fault rfl (by decide) hk_85 rfl rfl rfl (Nat.le_of_ble_eq_true rfl) (Nat.le_refl _) (Nat.le_refl _) ?_
      refine z_aload_n (n := 334) dL_law_333 rfl 2 rfl rfl ?_
      obtain ⟨hm_88, hF⟩ := zg_some hF
      obtain ⟨n_89, hk_90, hF⟩ := zka_some hF
      obtain ⟨x_92, I_93, c_91, hF⟩ := zb2_some hF
      refine z_cV (n := 337) (mc2 := (cc.1 + mE)) (ms2 := (cc.2 + wE)) (st := [.int x_87]) (C_X7_fault htr (zMok_ok hm_88) c_91) dL_law_334 rfl (lw_V q2010 q2011 q2012 q131 q2013) hcee_X7_fault rfl (by decide) hk_90 rfl rfl rfl (Nat.le_of_ble_eq_true rfl) (Nat.le_refl _) (Nat.le_refl _) ?_
      obtain ⟨h_94, e_95, hF⟩ := zlet_ob hF
      refine z_toFI e_95 ?_
      refine z_icmp_eq (n := 340) (t := 2216) dL_law_337 rfl (by decide) (fun hc => ?_) (fun hc => ?_)
      · replace hF := (if_pos hc).symm.trans hF
        obtain ⟨v4_96, e_97, hF⟩ := zlet_ob hF
        refine z_iincE (n := 2219) (w := 6) (v := v4_96) (lv' := [(4, .int v4_96), (0, .ref a0), (1, .ref o_4), (2, .ref 1860), (3, .ref o_19)]) dL_law_2216 rfl 4 rfl (by decide) e_97 (by decide) rfl ?_
        refine z_goto (t := 23) dL_law_2219 (by decide) ?_
        refine z_sub [1, 2, 3, 4, 0] rfl ?_
        obtain ⟨rfl, rfl⟩ := zpair hF
        refine z_eq (Nat.zero_add _) (Nat.zero_add _) ?_
        exact kl v4_96 h_94 rfl
      · replace hF := (if_neg hc).symm.trans hF
        refine z_iconst (n := 341) (v := 0) dL_law_340 rfl (by decide) ?_
        obtain ⟨rfl, rfl⟩ := zpair hF
        exact z_iret dL_law_341 rfl rfl (kq _ rfl)
    replace hF := (if_neg ht2).symm.trans hF
    by_cases ht3 : (((hI h_22) a0 v4_21.toNatClampNeg) &&& (63 : Int32)) = 3
    · replace hF := (if_pos ht3).symm.trans hF
      refine z_tableIn (off := 302) (t := 342) dL_law_40 (by rw [ht3]; decide) (by rw [ht3]; decide) (by rw [ht3]; rfl) (by decide) ?_
      refine z_aload_n (n := 343) dL_law_342 rfl 1 rfl rfl ?_
      refine z_aload_n (n := 344) dL_law_343 rfl 0 rfl rfl ?_
      refine z_iload (n := 346) dL_law_344 rfl 4 rfl ?_
      refine z_iconst (n := 347) (v := 1) dL_law_346 rfl (by decide) ?_
      refine z_iadd (n := 348) dL_law_347 rfl ?_
      obtain ⟨h_98, hF⟩ := zg_some hF
      refine z_ialdK (n := 349) ((v4_21 + 1).toNatClampNeg) rfl dL_law_348 rfl hk_24 (zin_ok h_98) ?_
      refine z_aload_n (n := 350) dL_law_349 rfl 3 rfl rfl ?_
      obtain ⟨c_102, t_103, c_99, hF⟩ := zc1_some hF
      obtain ⟨x_100, h_101⟩ := t_103
      dsimp only [zn2] at hF
      obtain ⟨cc, hF, hcc⟩ := zpay_some hF
      refine z_payE hcc ?_
      refine z_cSH (n := 353) (mc2 := (cc.1 + mE)) (ms2 := (cc.2 + wE)) (st := []) (C_X0_count htr c_99) dL_law_350 rfl (lw_SW q1359 q1360 q104 q1361) hcee_X0_count rfl (by decide) rfl (Nat.le_of_ble_eq_true rfl) (Nat.le_of_eq (Nat.add_comm _ _)) (Nat.le_of_eq (Nat.add_comm _ _)) ?_
      refine z_istoreE (n := 355) (lv' := [(5, .int x_100), (0, .ref a0), (1, .ref o_4), (2, .ref 1860), (3, .ref o_19), (4, .int v4_21)]) dL_law_353 rfl rfl (by decide) rfl ?_
      refine z_aload_n (n := 356) dL_law_355 rfl 3 rfl rfl ?_
      refine z_aload_n (n := 357) dL_law_356 rfl 1 rfl rfl ?_
      refine z_iload (n := 359) dL_law_357 rfl 5 rfl ?_
      refine z_iconst (n := 360) (v := 1) dL_law_359 rfl (by decide) ?_
      refine z_iadd (n := 361) dL_law_360 rfl ?_
      obtain ⟨n_104, hk_105, hF⟩ := zka_some hF
      obtain ⟨h_106, hF⟩ := zg_some hF
      refine z_ialdK (n := 362) ((v4_21 + 1).toNatClampNeg) rfl dL_law_361 rfl hk_105 (zin_ok h_106) ?_
      obtain ⟨hm_107, hF⟩ := zg_some hF
      obtain ⟨n_108, hk_109, hF⟩ := zka_some hF
      obtain ⟨x_111, I_112, c_110, hF⟩ := zb2_some hF
      refine z_cV (n := 365) (mc2 := (cc.1 + mE)) (ms2 := (cc.2 + wE)) (st := []) (C_X7_count htr (zMok_ok hm_107) c_110) dL_law_362 rfl (lw_V q2014 q2015 q2016 q131 q2017) hcee_X7_count rfl (by decide) hk_109 rfl rfl rfl (Nat.le_of_ble_eq_true rfl) (Nat.le_refl _) (Nat.le_refl _) ?_
      obtain ⟨h_113, e_114, hF⟩ := zlet_ob hF
      refine z_toFI e_114 ?_
      refine z_istoreE (n := 367) (lv' := [(6, .int x_111), (5, .int x_100), (0, .ref a0), (1, .ref o_4), (2, .ref 1860), (3, .ref o_19), (4, .int v4_21)]) dL_law_365 rfl rfl (by decide) rfl ?_
      refine z_aload_n (n := 368) dL_law_367 rfl 4 rfl rfl ?_
      obtain ⟨hm_115, hF⟩ := zg_some hF
      obtain ⟨n_116, hk_117, hF⟩ := zka_some hF
      obtain ⟨x_119, c_118, hF⟩ := zb1_some hF
      refine z_cV (n := 371) (mc2 := (cc.1 + mE)) (ms2 := (cc.2 + wE)) (st := []) (C_X7_thrown htr (zMok_ok hm_115) c_118) dL_law_368 rfl (lw_V q1867 q1868 q1869 q131 q1870) hcee_X7_thrown rfl (by decide) hk_117 rfl rfl rfl (Nat.le_of_ble_eq_true rfl) (Nat.le_refl _) (Nat.le_refl _) ?_
      refine z_iload (n := 373) dL_law_371 rfl 1 rfl ?_
      refine z_icmp_eq (n := 376) (t := 378) dL_law_373 rfl (by decide) (fun hc => ?_) (fun hc => ?_)
      · replace hF := (if_pos hc).symm.trans hF
        refine z_iload (n := 380) dL_law_378 rfl 1 rfl ?_
        refine z_if_ne (n := 383) (t := 395) dL_law_380 rfl (by decide) (fun hc => ?_) (fun hc => ?_)
        · replace hF := (if_pos hc).symm.trans hF
          refine z_goto (t := 2216) dL_law_395 (by decide) ?_
          obtain ⟨v4_120, e_121, hF⟩ := zlet_ob hF
          refine z_iincE (n := 2219) (w := 6) (v := v4_120) (lv' := [(4, .int v4_120), (6, .int x_111), (5, .int x_100), (0, .ref a0), (1, .ref o_4), (2, .ref 1860), (3, .ref o_19)]) dL_law_2216 rfl 6 rfl (by decide) e_121 (by decide) rfl ?_
          refine z_goto (t := 23) dL_law_2219 (by decide) ?_
          refine z_sub [3, 4, 5, 6, 0] rfl ?_
          obtain ⟨rfl, rfl⟩ := zpair hF
          refine z_eq (Nat.zero_add _) (Nat.zero_add _) ?_
          exact kl v4_120 h_113 rfl
        · replace hF := (if_neg hc).symm.trans hF
          refine z_aload_n (n := 384) dL_law_383 rfl 5 rfl rfl ?_
          refine z_iconst (n := 385) (v := 0) dL_law_384 rfl (by decide) ?_
          obtain ⟨n_122, hk_123, hF⟩ := zka_some hF
          obtain ⟨h_124, hF⟩ := zg_some hF
          refine z_laldK (n := 386) 0 (by decide) dL_law_385 rfl hk_123 (zin_ok h_124) ?_
          refine z_iload (n := 388) dL_law_386 rfl 0 rfl ?_
          refine z_i2l (n := 389) dL_law_388 rfl ?_
          refine z_lcmp (n := 390) dL_law_389 rfl ?_
          refine z_if_eq (n := 393) (t := 395) dL_law_390 rfl (by decide) (fun hc => ?_) (fun hc => ?_)
          · replace hF := (if_pos hc).symm.trans hF
            refine z_goto (t := 2216) dL_law_395 (by decide) ?_
            obtain ⟨v4_125, e_126, hF⟩ := zlet_ob hF
            refine z_iincE (n := 2219) (w := 6) (v := v4_125) (lv' := [(4, .int v4_125), (6, .int x_111), (5, .int x_100), (0, .ref a0), (1, .ref o_4), (2, .ref 1860), (3, .ref o_19)]) dL_law_2216 rfl 6 rfl (by decide) e_126 (by decide) rfl ?_
            refine z_goto (t := 23) dL_law_2219 (by decide) ?_
            refine z_sub [3, 4, 5, 6, 0] rfl ?_
            obtain ⟨rfl, rfl⟩ := zpair hF
            refine z_eq (Nat.zero_add _) (Nat.zero_add _) ?_
            exact kl v4_125 h_113 rfl
          · replace hF := (if_neg hc).symm.trans hF
            refine z_iconst (n := 394) (v := 0) dL_law_393 rfl (by decide) ?_
            obtain ⟨rfl, rfl⟩ := zpair hF
            exact z_iret dL_law_394 rfl rfl (kq _ rfl)
      · replace hF := (if_neg hc).symm.trans hF
        refine z_iconst (n := 377) (v := 0) dL_law_376 rfl (by decide) ?_
        obtain ⟨rfl, rfl⟩ := zpair hF
        exact z_iret dL_law_377 rfl rfl (kq _ rfl)
    replace hF := (if_neg ht3).symm.trans hF
    by_cases ht4 : (((hI h_22) a0 v4_21.toNatClampNeg) &&& (63 : Int32)) = 4
    · replace hF := (if_pos ht4).symm.trans hF
      refine z_tableIn (off := 358) (t := 398) dL_law_40 (by rw [ht4]; decide) (by rw [ht4]; decide) (by rw [ht4]; rfl) (by decide) ?_
      refine z_aload_n (n := 399) dL_law_398 rfl 1 rfl rfl ?_
      refine z_aload_n (n := 400) dL_law_399 rfl 0 rfl rfl ?_
      refine z_iload (n := 402) dL_law_400 rfl 4 rfl ?_
      refine z_iconst (n := 403) (v := 1) dL_law_402 rfl (by decide) ?_
      refine z_iadd (n := 404) dL_law_403 rfl ?_
      obtain ⟨h_127, hF⟩ := zg_some hF
      refine z_ialdK (n := 405) ((v4_21 + 1).toNatClampNeg) rfl dL_law_404 rfl hk_24 (zin_ok h_127) ?_
      refine z_aload_n (n := 406) dL_law_405 rfl 0 rfl rfl ?_
      refine z_iload (n := 408) dL_law_406 rfl 4 rfl ?_
      refine z_iconst (n := 409) (v := 2) dL_law_408 rfl (by decide) ?_
      refine z_iadd (n := 410) dL_law_409 rfl ?_
      obtain ⟨h_128, hF⟩ := zg_some hF
      refine z_ialdK (n := 411) ((v4_21 + 2).toNatClampNeg) rfl dL_law_410 rfl hk_24 (zin_ok h_128) ?_
      refine z_aload_n (n := 412) dL_law_411 rfl 3 rfl rfl ?_
      obtain ⟨c_132, t_133, c_129, hF⟩ := zc1_some hF
      obtain ⟨x_130, h_131⟩ := t_133
      dsimp only [zn2] at hF
      obtain ⟨cc, hF, hcc⟩ := zpay_some hF
      refine z_payE hcc ?_
      refine z_cSH (n := 415) (mc2 := (cc.1 + mE)) (ms2 := (cc.2 + wE)) (st := []) (C_X0_forest htr c_129) dL_law_412 rfl (lw_SW q1393 q1394 q104 q1395) hcee_X0_forest rfl (by decide) rfl (Nat.le_of_ble_eq_true rfl) (Nat.le_of_eq (Nat.add_comm _ _)) (Nat.le_of_eq (Nat.add_comm _ _)) ?_
      refine z_istoreE (n := 417) (lv' := [(5, .int x_130), (0, .ref a0), (1, .ref o_4), (2, .ref 1860), (3, .ref o_19), (4, .int v4_21)]) dL_law_415 rfl rfl (by decide) rfl ?_
      refine z_aload_n (n := 418) dL_law_417 rfl 3 rfl rfl ?_
      refine z_aload_n (n := 419) dL_law_418 rfl 1 rfl rfl ?_
      refine z_iload (n := 421) dL_law_419 rfl 5 rfl ?_
      refine z_iconst (n := 422) (v := 1) dL_law_421 rfl (by decide) ?_
      refine z_iadd (n := 423) dL_law_422 rfl ?_
      obtain ⟨n_134, hk_135, hF⟩ := zka_some hF
      obtain ⟨h_136, hF⟩ := zg_some hF
      refine z_ialdK (n := 424) ((v4_21 + 1).toNatClampNeg) rfl dL_law_423 rfl hk_135 (zin_ok h_136) ?_
      refine z_aload_n (n := 425) dL_law_424 rfl 1 rfl rfl ?_
      refine z_iload (n := 427) dL_law_425 rfl 5 rfl ?_
      refine z_iconst (n := 428) (v := 2) dL_law_427 rfl (by decide) ?_
      refine z_iadd (n := 429) dL_law_428 rfl ?_
      obtain ⟨h_137, hF⟩ := zg_some hF
      refine z_ialdK (n := 430) ((v4_21 + 2).toNatClampNeg) rfl dL_law_429 rfl hk_135 (zin_ok h_137) ?_
      obtain ⟨hm_138, hF⟩ := zg_some hF
      obtain ⟨n_139, hk_140, hF⟩ := zka_some hF
      obtain ⟨x_142, I_143, c_141, hF⟩ := zb2_some hF
      refine z_cV (n := 433) (mc2 := (cc.1 + mE)) (ms2 := (cc.2 + wE)) (st := []) (C_X7_forest htr (zMok_ok hm_138) c_141) dL_law_430 rfl (lw_V q2022 q2023 q2024 q131 q2025) hcee_X7_forest rfl (by decide) hk_140 rfl rfl rfl (Nat.le_of_ble_eq_true rfl) (Nat.le_refl _) (Nat.le_refl _) ?_
      obtain ⟨h_144, e_145, hF⟩ := zlet_ob hF
      refine z_toFI e_145 ?_
      refine z_istoreE (n := 435) (lv' := [(6, .int x_142), (5, .int x_130), (0, .ref a0), (1, .ref o_4), (2, .ref 1860), (3, .ref o_19), (4, .int v4_21)]) dL_law_433 rfl rfl (by decide) rfl ?_
      refine z_aload_n (n := 436) dL_law_435 rfl 4 rfl rfl ?_
      obtain ⟨hm_146, hF⟩ := zg_some hF
      obtain ⟨n_147, hk_148, hF⟩ := zka_some hF
      obtain ⟨x_150, c_149, hF⟩ := zb1_some hF
      refine z_cV (n := 439) (mc2 := (cc.1 + mE)) (ms2 := (cc.2 + wE)) (st := []) (C_X7_thrown htr (zMok_ok hm_146) c_149) dL_law_436 rfl (lw_V q1867 q1868 q1869 q131 q1870) hcee_X7_thrown rfl (by decide) hk_148 rfl rfl rfl (Nat.le_of_ble_eq_true rfl) (Nat.le_refl _) (Nat.le_refl _) ?_
      refine z_iload (n := 441) dL_law_439 rfl 1 rfl ?_
      refine z_icmp_eq (n := 444) (t := 446) dL_law_441 rfl (by decide) (fun hc => ?_) (fun hc => ?_)
      · replace hF := (if_pos hc).symm.trans hF
        refine z_iload (n := 448) dL_law_446 rfl 1 rfl ?_
        refine z_if_ne (n := 451) (t := 463) dL_law_448 rfl (by decide) (fun hc => ?_) (fun hc => ?_)
        · replace hF := (if_pos hc).symm.trans hF
          refine z_goto (t := 2216) dL_law_463 (by decide) ?_
          obtain ⟨v4_151, e_152, hF⟩ := zlet_ob hF
          refine z_iincE (n := 2219) (w := 6) (v := v4_151) (lv' := [(4, .int v4_151), (6, .int x_142), (5, .int x_130), (0, .ref a0), (1, .ref o_4), (2, .ref 1860), (3, .ref o_19)]) dL_law_2216 rfl 6 rfl (by decide) e_152 (by decide) rfl ?_
          refine z_goto (t := 23) dL_law_2219 (by decide) ?_
          refine z_sub [3, 4, 5, 6, 0] rfl ?_
          obtain ⟨rfl, rfl⟩ := zpair hF
          refine z_eq (Nat.zero_add _) (Nat.zero_add _) ?_
          exact kl v4_151 h_144 rfl
        · replace hF := (if_neg hc).symm.trans hF
          refine z_aload_n (n := 452) dL_law_451 rfl 5 rfl rfl ?_
          refine z_iconst (n := 453) (v := 0) dL_law_452 rfl (by decide) ?_
          obtain ⟨n_153, hk_154, hF⟩ := zka_some hF
          obtain ⟨h_155, hF⟩ := zg_some hF
          refine z_laldK (n := 454) 0 (by decide) dL_law_453 rfl hk_154 (zin_ok h_155) ?_
          refine z_iload (n := 456) dL_law_454 rfl 0 rfl ?_
          refine z_i2l (n := 457) dL_law_456 rfl ?_
          refine z_lcmp (n := 458) dL_law_457 rfl ?_
          refine z_if_eq (n := 461) (t := 463) dL_law_458 rfl (by decide) (fun hc => ?_) (fun hc => ?_)
          · replace hF := (if_pos hc).symm.trans hF
            refine z_goto (t := 2216) dL_law_463 (by decide) ?_
            obtain ⟨v4_156, e_157, hF⟩ := zlet_ob hF
            refine z_iincE (n := 2219) (w := 6) (v := v4_156) (lv' := [(4, .int v4_156), (6, .int x_142), (5, .int x_130), (0, .ref a0), (1, .ref o_4), (2, .ref 1860), (3, .ref o_19)]) dL_law_2216 rfl 6 rfl (by decide) e_157 (by decide) rfl ?_
            refine z_goto (t := 23) dL_law_2219 (by decide) ?_
            refine z_sub [3, 4, 5, 6, 0] rfl ?_
            obtain ⟨rfl, rfl⟩ := zpair hF
            refine z_eq (Nat.zero_add _) (Nat.zero_add _) ?_
            exact kl v4_156 h_144 rfl
          · replace hF := (if_neg hc).symm.trans hF
            refine z_iconst (n := 462) (v := 0) dL_law_461 rfl (by decide) ?_
            obtain ⟨rfl, rfl⟩ := zpair hF
            exact z_iret dL_law_462 rfl rfl (kq _ rfl)
      · replace hF := (if_neg hc).symm.trans hF
        refine z_iconst (n := 445) (v := 0) dL_law_444 rfl (by decide) ?_
        obtain ⟨rfl, rfl⟩ := zpair hF
        exact z_iret dL_law_445 rfl rfl (kq _ rfl)
    replace hF := (if_neg ht4).symm.trans hF
    by_cases ht5 : (((hI h_22) a0 v4_21.toNatClampNeg) &&& (63 : Int32)) = 5
    · replace hF := (if_pos ht5).symm.trans hF
      refine z_tableIn (off := 426) (t := 466) dL_law_40 (by rw [ht5]; decide) (by rw [ht5]; decide) (by rw [ht5]; rfl) (by decide) ?_
      refine z_aload_n (n := 467) dL_law_466 rfl 1 rfl rfl ?_
      refine z_aload_n (n := 468) dL_law_467 rfl 0 rfl rfl ?_
      refine z_iload (n := 470) dL_law_468 rfl 4 rfl ?_
      refine z_iconst (n := 471) (v := 1) dL_law_470 rfl (by decide) ?_
      refine z_iadd (n := 472) dL_law_471 rfl ?_
      obtain ⟨h_158, hF⟩ := zg_some hF
      refine z_ialdK (n := 473) ((v4_21 + 1).toNatClampNeg) rfl dL_law_472 rfl hk_24 (zin_ok h_158) ?_
      refine z_aload_n (n := 474) dL_law_473 rfl 0 rfl rfl ?_
      refine z_iload (n := 476) dL_law_474 rfl 4 rfl ?_
      refine z_iconst (n := 477) (v := 2) dL_law_476 rfl (by decide) ?_
      refine z_iadd (n := 478) dL_law_477 rfl ?_
      obtain ⟨h_159, hF⟩ := zg_some hF
      refine z_ialdK (n := 479) ((v4_21 + 2).toNatClampNeg) rfl dL_law_478 rfl hk_24 (zin_ok h_159) ?_
      refine z_aload_n (n := 480) dL_law_479 rfl 3 rfl rfl ?_
      obtain ⟨c_163, t_164, c_160, hF⟩ := zc1_some hF
      obtain ⟨x_161, h_162⟩ := t_164
      dsimp only [zn2] at hF
      obtain ⟨cc, hF, hcc⟩ := zpay_some hF
      refine z_payE hcc ?_
      refine z_cSH (n := 483) (mc2 := (cc.1 + mE)) (ms2 := (cc.2 + wE)) (st := []) (C_X0_band htr c_160) dL_law_480 rfl (lw_SW q1414 q1415 q104 q1416) hcee_X0_band rfl (by decide) rfl (Nat.le_of_ble_eq_true rfl) (Nat.le_of_eq (Nat.add_comm _ _)) (Nat.le_of_eq (Nat.add_comm _ _)) ?_
      refine z_istoreE (n := 485) (lv' := [(5, .int x_161), (0, .ref a0), (1, .ref o_4), (2, .ref 1860), (3, .ref o_19), (4, .int v4_21)]) dL_law_483 rfl rfl (by decide) rfl ?_
      refine z_aload_n (n := 486) dL_law_485 rfl 3 rfl rfl ?_
      refine z_aload_n (n := 487) dL_law_486 rfl 1 rfl rfl ?_
      refine z_iload (n := 489) dL_law_487 rfl 5 rfl ?_
      refine z_iconst (n := 490) (v := 1) dL_law_489 rfl (by decide) ?_
      refine z_iadd (n := 491) dL_law_490 rfl ?_
      obtain ⟨n_165, hk_166, hF⟩ := zka_some hF
      obtain ⟨h_167, hF⟩ := zg_some hF
      refine z_ialdK (n := 492) ((v4_21 + 1).toNatClampNeg) rfl dL_law_491 rfl hk_166 (zin_ok h_167) ?_
      refine z_aload_n (n := 493) dL_law_492 rfl 1 rfl rfl ?_
      refine z_iload (n := 495) dL_law_493 rfl 5 rfl ?_
      refine z_iconst (n := 496) (v := 2) dL_law_495 rfl (by decide) ?_
      refine z_iadd (n := 497) dL_law_496 rfl ?_
      obtain ⟨h_168, hF⟩ := zg_some hF
      refine z_ialdK (n := 498) ((v4_21 + 2).toNatClampNeg) rfl dL_law_497 rfl hk_166 (zin_ok h_168) ?_
      obtain ⟨hm_169, hF⟩ := zg_some hF
      obtain ⟨n_170, hk_171, hF⟩ := zka_some hF
      obtain ⟨x_173, I_174, c_172, hF⟩ := zb2_some hF
      refine z_cV (n := 501) (mc2 := (cc.1 + mE)) (ms2 := (cc.2 + wE)) (st := []) (C_X7_band htr (zMok_ok hm_169) c_172) dL_law_498 rfl (lw_V q2041 q2042 q2043 q131 q2044) hcee_X7_band rfl (by decide) hk_171 rfl rfl rfl (Nat.le_of_ble_eq_true rfl) (Nat.le_refl _) (Nat.le_refl _) ?_
      obtain ⟨h_175, e_176, hF⟩ := zlet_ob hF
      refine z_toFI e_176 ?_
      refine z_istoreE (n := 503) (lv' := [(6, .int x_173), (5, .int x_161), (0, .ref a0), (1, .ref o_4), (2, .ref 1860), (3, .ref o_19), (4, .int v4_21)]) dL_law_501 rfl rfl (by decide) rfl ?_
      refine z_aload_n (n := 504) dL_law_503 rfl 4 rfl rfl ?_
      obtain ⟨hm_177, hF⟩ := zg_some hF
      obtain ⟨n_178, hk_179, hF⟩ := zka_some hF
      obtain ⟨x_181, c_180, hF⟩ := zb1_some hF
      refine z_cV (n := 507) (mc2 := (cc.1 + mE)) (ms2 := (cc.2 + wE)) (st := []) (C_X7_thrown htr (zMok_ok hm_177) c_180) dL_law_504 rfl (lw_V q1867 q1868 q1869 q131 q1870) hcee_X7_thrown rfl (by decide) hk_179 rfl rfl rfl (Nat.le_of_ble_eq_true rfl) (Nat.le_refl _) (Nat.le_refl _) ?_
      refine z_iload (n := 509) dL_law_507 rfl 1 rfl ?_
      refine z_icmp_eq (n := 512) (t := 514) dL_law_509 rfl (by decide) (fun hc => ?_) (fun hc => ?_)
      · replace hF := (if_pos hc).symm.trans hF
        refine z_iload (n := 516) dL_law_514 rfl 1 rfl ?_
        refine z_if_ne (n := 519) (t := 531) dL_law_516 rfl (by decide) (fun hc => ?_) (fun hc => ?_)
        · replace hF := (if_pos hc).symm.trans hF
          refine z_goto (t := 2216) dL_law_531 (by decide) ?_
          obtain ⟨v4_182, e_183, hF⟩ := zlet_ob hF
          refine z_iincE (n := 2219) (w := 6) (v := v4_182) (lv' := [(4, .int v4_182), (6, .int x_173), (5, .int x_161), (0, .ref a0), (1, .ref o_4), (2, .ref 1860), (3, .ref o_19)]) dL_law_2216 rfl 6 rfl (by decide) e_183 (by decide) rfl ?_
          refine z_goto (t := 23) dL_law_2219 (by decide) ?_
          refine z_sub [3, 4, 5, 6, 0] rfl ?_
          obtain ⟨rfl, rfl⟩ := zpair hF
          refine z_eq (Nat.zero_add _) (Nat.zero_add _) ?_
          exact kl v4_182 h_175 rfl
        · replace hF := (if_neg hc).symm.trans hF
          refine z_aload_n (n := 520) dL_law_519 rfl 5 rfl rfl ?_
          refine z_iconst (n := 521) (v := 0) dL_law_520 rfl (by decide) ?_
          obtain ⟨n_184, hk_185, hF⟩ := zka_some hF
          obtain ⟨h_186, hF⟩ := zg_some hF
          refine z_laldK (n := 522) 0 (by decide) dL_law_521 rfl hk_185 (zin_ok h_186) ?_
          refine z_iload (n := 524) dL_law_522 rfl 0 rfl ?_
          refine z_i2l (n := 525) dL_law_524 rfl ?_
          refine z_lcmp (n := 526) dL_law_525 rfl ?_
          refine z_if_eq (n := 529) (t := 531) dL_law_526 rfl (by decide) (fun hc => ?_) (fun hc => ?_)
          · replace hF := (if_pos hc).symm.trans hF
            refine z_goto (t := 2216) dL_law_531 (by decide) ?_
            obtain ⟨v4_187, e_188, hF⟩ := zlet_ob hF
            refine z_iincE (n := 2219) (w := 6) (v := v4_187) (lv' := [(4, .int v4_187), (6, .int x_173), (5, .int x_161), (0, .ref a0), (1, .ref o_4), (2, .ref 1860), (3, .ref o_19)]) dL_law_2216 rfl 6 rfl (by decide) e_188 (by decide) rfl ?_
            refine z_goto (t := 23) dL_law_2219 (by decide) ?_
            refine z_sub [3, 4, 5, 6, 0] rfl ?_
            obtain ⟨rfl, rfl⟩ := zpair hF
            refine z_eq (Nat.zero_add _) (Nat.zero_add _) ?_
            exact kl v4_187 h_175 rfl
          · replace hF := (if_neg hc).symm.trans hF
            refine z_iconst (n := 530) (v := 0) dL_law_529 rfl (by decide) ?_
            obtain ⟨rfl, rfl⟩ := zpair hF
            exact z_iret dL_law_530 rfl rfl (kq _ rfl)
      · replace hF := (if_neg hc).symm.trans hF
        refine z_iconst (n := 513) (v := 0) dL_law_512 rfl (by decide) ?_
        obtain ⟨rfl, rfl⟩ := zpair hF
        exact z_iret dL_law_513 rfl rfl (kq _ rfl)
    replace hF := (if_neg ht5).symm.trans hF
    by_cases ht6 : (((hI h_22) a0 v4_21.toNatClampNeg) &&& (63 : Int32)) = 6
    · replace hF := (if_pos ht6).symm.trans hF
      refine z_tableIn (off := 494) (t := 534) dL_law_40 (by rw [ht6]; decide) (by rw [ht6]; decide) (by rw [ht6]; rfl) (by decide) ?_
      refine z_aload_n (n := 535) dL_law_534 rfl 1 rfl rfl ?_
      refine z_aload_n (n := 536) dL_law_535 rfl 0 rfl rfl ?_
      refine z_iload (n := 538) dL_law_536 rfl 4 rfl ?_
      refine z_iconst (n := 539) (v := 1) dL_law_538 rfl (by decide) ?_
      refine z_iadd (n := 540) dL_law_539 rfl ?_
      obtain ⟨h_189, hF⟩ := zg_some hF
      refine z_ialdK (n := 541) ((v4_21 + 1).toNatClampNeg) rfl dL_law_540 rfl hk_24 (zin_ok h_189) ?_
      obtain ⟨n_190, hk_191, hF⟩ := zka_some hF
      obtain ⟨c_195, t_196, c_192, hF⟩ := zc1_some hF
      obtain ⟨x_193, h_194⟩ := t_196
      dsimp only [zn2] at hF
      obtain ⟨cc, hF, hcc⟩ := zpay_some hF
      refine z_payE hcc ?_
      refine z_cV (n := 544) (mc2 := (cc.1 + mE)) (ms2 := (cc.2 + wE)) (st := []) (C_X1_years htr c_192) dL_law_541 rfl (lw_V q782 q783 q784 q105 q785) hcee_X1_years rfl (by decide) hk_191 rfl rfl rfl (Nat.le_of_ble_eq_true rfl) (Nat.le_of_eq (Nat.add_comm _ _)) (Nat.le_of_eq (Nat.add_comm _ _)) ?_
      refine z_aload_n (n := 545) dL_law_544 rfl 2 rfl rfl ?_
      refine z_aload_n (n := 546) dL_law_545 rfl 0 rfl rfl ?_
      refine z_iload (n := 548) dL_law_546 rfl 4 rfl ?_
      refine z_iconst (n := 549) (v := 1) dL_law_548 rfl (by decide) ?_
      refine z_iadd (n := 550) dL_law_549 rfl ?_
      obtain ⟨n_197, hk_198, hF⟩ := zka_some hF
      obtain ⟨h_199, hF⟩ := zg_some hF
      refine z_ialdK (n := 551) ((v4_21 + 1).toNatClampNeg) rfl dL_law_550 rfl hk_198 (zin_ok h_199) ?_
      obtain ⟨hm_200, hF⟩ := zg_some hF
      obtain ⟨n_201, hk_202, hF⟩ := zka_some hF
      obtain ⟨x_204, I_205, c_203, hF⟩ := zb2_some hF
      refine z_cV (n := 554) (mc2 := (cc.1 + mE)) (ms2 := (cc.2 + wE)) (st := [.int x_193]) (C_X7_years htr (zMok_ok hm_200) c_203) dL_law_551 rfl (lw_V q2068 q2069 q2070 q131 q2071) hcee_X7_years rfl (by decide) hk_202 rfl rfl rfl (Nat.le_of_ble_eq_true rfl) (Nat.le_refl _) (Nat.le_refl _) ?_
      obtain ⟨h_206, e_207, hF⟩ := zlet_ob hF
      refine z_toFI e_207 ?_
      refine z_icmp_eq (n := 557) (t := 2216) dL_law_554 rfl (by decide) (fun hc => ?_) (fun hc => ?_)
      · replace hF := (if_pos hc).symm.trans hF
        obtain ⟨v4_208, e_209, hF⟩ := zlet_ob hF
        refine z_iincE (n := 2219) (w := 6) (v := v4_208) (lv' := [(4, .int v4_208), (0, .ref a0), (1, .ref o_4), (2, .ref 1860), (3, .ref o_19)]) dL_law_2216 rfl 4 rfl (by decide) e_209 (by decide) rfl ?_
        refine z_goto (t := 23) dL_law_2219 (by decide) ?_
        refine z_sub [1, 2, 3, 4, 0] rfl ?_
        obtain ⟨rfl, rfl⟩ := zpair hF
        refine z_eq (Nat.zero_add _) (Nat.zero_add _) ?_
        exact kl v4_208 h_206 rfl
      · replace hF := (if_neg hc).symm.trans hF
        refine z_iconst (n := 558) (v := 0) dL_law_557 rfl (by decide) ?_
        obtain ⟨rfl, rfl⟩ := zpair hF
        exact z_iret dL_law_558 rfl rfl (kq _ rfl)
    replace hF := (if_neg ht6).symm.trans hF
    by_cases ht7 : (((hI h_22) a0 v4_21.toNatClampNeg) &&& (63 : Int32)) = 7
    · replace hF := (if_pos ht7).symm.trans hF
      refine z_tableIn (off := 519) (t := 559) dL_law_40 (by rw [ht7]; decide) (by rw [ht7]; decide) (by rw [ht7]; rfl) (by decide) ?_
      refine z_aload_n (n := 560) dL_law_559 rfl 1 rfl rfl ?_
      refine z_aload_n (n := 561) dL_law_560 rfl 0 rfl rfl ?_
      refine z_iload (n := 563) dL_law_561 rfl 4 rfl ?_
      refine z_iconst (n := 564) (v := 1) dL_law_563 rfl (by decide) ?_
      refine z_iadd (n := 565) dL_law_564 rfl ?_
      obtain ⟨h_210, hF⟩ := zg_some hF
      refine z_ialdK (n := 566) ((v4_21 + 1).toNatClampNeg) rfl dL_law_565 rfl hk_24 (zin_ok h_210) ?_
      refine z_aload_n (n := 567) dL_law_566 rfl 0 rfl rfl ?_
      refine z_iload (n := 569) dL_law_567 rfl 4 rfl ?_
      refine z_iconst (n := 570) (v := 2) dL_law_569 rfl (by decide) ?_
      refine z_iadd (n := 571) dL_law_570 rfl ?_
      obtain ⟨h_211, hF⟩ := zg_some hF
      refine z_ialdK (n := 572) ((v4_21 + 2).toNatClampNeg) rfl dL_law_571 rfl hk_24 (zin_ok h_211) ?_
      refine z_aload_n (n := 573) dL_law_572 rfl 3 rfl rfl ?_
      obtain ⟨c_215, t_216, c_212, hF⟩ := zc1_some hF
      obtain ⟨x_213, h_214⟩ := t_216
      dsimp only [zn2] at hF
      obtain ⟨cc, hF, hcc⟩ := zpay_some hF
      refine z_payE hcc ?_
      refine z_cSH (n := 576) (mc2 := (cc.1 + mE)) (ms2 := (cc.2 + wE)) (st := []) (C_X0_move htr c_212) dL_law_573 rfl (lw_SW q1426 q1427 q104 q1428) hcee_X0_move rfl (by decide) rfl (Nat.le_of_ble_eq_true rfl) (Nat.le_of_eq (Nat.add_comm _ _)) (Nat.le_of_eq (Nat.add_comm _ _)) ?_
      refine z_istoreE (n := 578) (lv' := [(5, .int x_213), (0, .ref a0), (1, .ref o_4), (2, .ref 1860), (3, .ref o_19), (4, .int v4_21)]) dL_law_576 rfl rfl (by decide) rfl ?_
      refine z_aload_n (n := 579) dL_law_578 rfl 3 rfl rfl ?_
      refine z_aload_n (n := 580) dL_law_579 rfl 1 rfl rfl ?_
      refine z_iload (n := 582) dL_law_580 rfl 5 rfl ?_
      refine z_iconst (n := 583) (v := 1) dL_law_582 rfl (by decide) ?_
      refine z_iadd (n := 584) dL_law_583 rfl ?_
      obtain ⟨n_217, hk_218, hF⟩ := zka_some hF
      obtain ⟨h_219, hF⟩ := zg_some hF
      refine z_ialdK (n := 585) ((v4_21 + 1).toNatClampNeg) rfl dL_law_584 rfl hk_218 (zin_ok h_219) ?_
      refine z_aload_n (n := 586) dL_law_585 rfl 1 rfl rfl ?_
      refine z_iload (n := 588) dL_law_586 rfl 5 rfl ?_
      refine z_iconst (n := 589) (v := 2) dL_law_588 rfl (by decide) ?_
      refine z_iadd (n := 590) dL_law_589 rfl ?_
      obtain ⟨h_220, hF⟩ := zg_some hF
      refine z_ialdK (n := 591) ((v4_21 + 2).toNatClampNeg) rfl dL_law_590 rfl hk_218 (zin_ok h_220) ?_
      obtain ⟨hm_221, hF⟩ := zg_some hF
      obtain ⟨n_222, hk_223, hF⟩ := zka_some hF
      obtain ⟨x_225, I_226, c_224, hF⟩ := zb2_some hF
      refine z_cV (n := 594) (mc2 := (cc.1 + mE)) (ms2 := (cc.2 + wE)) (st := []) (C_X7_move htr (zMok_ok hm_221) c_224) dL_law_591 rfl (lw_V q2109 q2110 q2111 q131 q2112) hcee_X7_move rfl (by decide) hk_223 rfl rfl rfl (Nat.le_of_ble_eq_true rfl) (Nat.le_refl _) (Nat.le_refl _) ?_
      obtain ⟨h_227, e_228, hF⟩ := zlet_ob hF
      refine z_toFI e_228 ?_
      refine z_istoreE (n := 596) (lv' := [(6, .int x_225), (5, .int x_213), (0, .ref a0), (1, .ref o_4), (2, .ref 1860), (3, .ref o_19), (4, .int v4_21)]) dL_law_594 rfl rfl (by decide) rfl ?_
      refine z_aload_n (n := 597) dL_law_596 rfl 4 rfl rfl ?_
      obtain ⟨hm_229, hF⟩ := zg_some hF
      obtain ⟨n_230, hk_231, hF⟩ := zka_some hF
      obtain ⟨x_233, c_232, hF⟩ := zb1_some hF
      refine z_cV (n := 600) (mc2 := (cc.1 + mE)) (ms2 := (cc.2 + wE)) (st := []) (C_X7_thrown htr (zMok_ok hm_229) c_232) dL_law_597 rfl (lw_V q1867 q1868 q1869 q131 q1870) hcee_X7_thrown rfl (by decide) hk_231 rfl rfl rfl (Nat.le_of_ble_eq_true rfl) (Nat.le_refl _) (Nat.le_refl _) ?_
      refine z_iload (n := 602) dL_law_600 rfl 1 rfl ?_
      refine z_icmp_eq (n := 605) (t := 607) dL_law_602 rfl (by decide) (fun hc => ?_) (fun hc => ?_)
      · replace hF := (if_pos hc).symm.trans hF
        refine z_iload (n := 609) dL_law_607 rfl 1 rfl ?_
        refine z_if_ne (n := 612) (t := 624) dL_law_609 rfl (by decide) (fun hc => ?_) (fun hc => ?_)
        · replace hF := (if_pos hc).symm.trans hF
          refine z_goto (t := 2216) dL_law_624 (by decide) ?_
          obtain ⟨v4_234, e_235, hF⟩ := zlet_ob hF
          refine z_iincE (n := 2219) (w := 6) (v := v4_234) (lv' := [(4, .int v4_234), (6, .int x_225), (5, .int x_213), (0, .ref a0), (1, .ref o_4), (2, .ref 1860), (3, .ref o_19)]) dL_law_2216 rfl 6 rfl (by decide) e_235 (by decide) rfl ?_
          refine z_goto (t := 23) dL_law_2219 (by decide) ?_
          refine z_sub [3, 4, 5, 6, 0] rfl ?_
          obtain ⟨rfl, rfl⟩ := zpair hF
          refine z_eq (Nat.zero_add _) (Nat.zero_add _) ?_
          exact kl v4_234 h_227 rfl
        · replace hF := (if_neg hc).symm.trans hF
          refine z_aload_n (n := 613) dL_law_612 rfl 5 rfl rfl ?_
          refine z_iconst (n := 614) (v := 0) dL_law_613 rfl (by decide) ?_
          obtain ⟨n_236, hk_237, hF⟩ := zka_some hF
          obtain ⟨h_238, hF⟩ := zg_some hF
          refine z_laldK (n := 615) 0 (by decide) dL_law_614 rfl hk_237 (zin_ok h_238) ?_
          refine z_iload (n := 617) dL_law_615 rfl 0 rfl ?_
          refine z_i2l (n := 618) dL_law_617 rfl ?_
          refine z_lcmp (n := 619) dL_law_618 rfl ?_
          refine z_if_eq (n := 622) (t := 624) dL_law_619 rfl (by decide) (fun hc => ?_) (fun hc => ?_)
          · replace hF := (if_pos hc).symm.trans hF
            refine z_goto (t := 2216) dL_law_624 (by decide) ?_
            obtain ⟨v4_239, e_240, hF⟩ := zlet_ob hF
            refine z_iincE (n := 2219) (w := 6) (v := v4_239) (lv' := [(4, .int v4_239), (6, .int x_225), (5, .int x_213), (0, .ref a0), (1, .ref o_4), (2, .ref 1860), (3, .ref o_19)]) dL_law_2216 rfl 6 rfl (by decide) e_240 (by decide) rfl ?_
            refine z_goto (t := 23) dL_law_2219 (by decide) ?_
            refine z_sub [3, 4, 5, 6, 0] rfl ?_
            obtain ⟨rfl, rfl⟩ := zpair hF
            refine z_eq (Nat.zero_add _) (Nat.zero_add _) ?_
            exact kl v4_239 h_227 rfl
          · replace hF := (if_neg hc).symm.trans hF
            refine z_iconst (n := 623) (v := 0) dL_law_622 rfl (by decide) ?_
            obtain ⟨rfl, rfl⟩ := zpair hF
            exact z_iret dL_law_623 rfl rfl (kq _ rfl)
      · replace hF := (if_neg hc).symm.trans hF
        refine z_iconst (n := 606) (v := 0) dL_law_605 rfl (by decide) ?_
        obtain ⟨rfl, rfl⟩ := zpair hF
        exact z_iret dL_law_606 rfl rfl (kq _ rfl)
    replace hF := (if_neg ht7).symm.trans hF
    by_cases ht8 : (((hI h_22) a0 v4_21.toNatClampNeg) &&& (63 : Int32)) = 8
    · replace hF := (if_pos ht8).symm.trans hF
      refine z_tableIn (off := 587) (t := 627) dL_law_40 (by rw [ht8]; decide) (by rw [ht8]; decide) (by rw [ht8]; rfl) (by decide) ?_
      refine z_aload_n (n := 628) dL_law_627 rfl 1 rfl rfl ?_
      refine z_aload_n (n := 629) dL_law_628 rfl 0 rfl rfl ?_
      refine z_iload (n := 631) dL_law_629 rfl 4 rfl ?_
      refine z_iconst (n := 632) (v := 1) dL_law_631 rfl (by decide) ?_
      refine z_iadd (n := 633) dL_law_632 rfl ?_
      obtain ⟨h_241, hF⟩ := zg_some hF
      refine z_ialdK (n := 634) ((v4_21 + 1).toNatClampNeg) rfl dL_law_633 rfl hk_24 (zin_ok h_241) ?_
      refine z_aload_n (n := 635) dL_law_634 rfl 0 rfl rfl ?_
      refine z_iload (n := 637) dL_law_635 rfl 4 rfl ?_
      refine z_iconst (n := 638) (v := 2) dL_law_637 rfl (by decide) ?_
      refine z_iadd (n := 639) dL_law_638 rfl ?_
      obtain ⟨h_242, hF⟩ := zg_some hF
      refine z_ialdK (n := 640) ((v4_21 + 2).toNatClampNeg) rfl dL_law_639 rfl hk_24 (zin_ok h_242) ?_
      refine z_aload_n (n := 641) dL_law_640 rfl 3 rfl rfl ?_
      obtain ⟨c_246, t_247, c_243, hF⟩ := zc1_some hF
      obtain ⟨x_244, h_245⟩ := t_247
      dsimp only [zn2] at hF
      obtain ⟨cc, hF, hcc⟩ := zpay_some hF
      refine z_payE hcc ?_
      refine z_cSH (n := 644) (mc2 := (cc.1 + mE)) (ms2 := (cc.2 + wE)) (st := []) (C_X0_bows htr c_243) dL_law_641 rfl (lw_SW q1433 q1434 q104 q1435) hcee_X0_bows rfl (by decide) rfl (Nat.le_of_ble_eq_true rfl) (Nat.le_of_eq (Nat.add_comm _ _)) (Nat.le_of_eq (Nat.add_comm _ _)) ?_
      refine z_istoreE (n := 646) (lv' := [(5, .int x_244), (0, .ref a0), (1, .ref o_4), (2, .ref 1860), (3, .ref o_19), (4, .int v4_21)]) dL_law_644 rfl rfl (by decide) rfl ?_
      refine z_aload_n (n := 647) dL_law_646 rfl 3 rfl rfl ?_
      refine z_aload_n (n := 648) dL_law_647 rfl 1 rfl rfl ?_
      refine z_iload (n := 650) dL_law_648 rfl 5 rfl ?_
      refine z_iconst (n := 651) (v := 1) dL_law_650 rfl (by decide) ?_
      refine z_iadd (n := 652) dL_law_651 rfl ?_
      obtain ⟨n_248, hk_249, hF⟩ := zka_some hF
      obtain ⟨h_250, hF⟩ := zg_some hF
      refine z_ialdK (n := 653) ((v4_21 + 1).toNatClampNeg) rfl dL_law_652 rfl hk_249 (zin_ok h_250) ?_
      refine z_aload_n (n := 654) dL_law_653 rfl 1 rfl rfl ?_
      refine z_iload (n := 656) dL_law_654 rfl 5 rfl ?_
      refine z_iconst (n := 657) (v := 2) dL_law_656 rfl (by decide) ?_
      refine z_iadd (n := 658) dL_law_657 rfl ?_
      obtain ⟨h_251, hF⟩ := zg_some hF
      refine z_ialdK (n := 659) ((v4_21 + 2).toNatClampNeg) rfl dL_law_658 rfl hk_249 (zin_ok h_251) ?_
      obtain ⟨hm_252, hF⟩ := zg_some hF
      obtain ⟨n_253, hk_254, hF⟩ := zka_some hF
      obtain ⟨x_256, I_257, c_255, hF⟩ := zb2_some hF
      refine z_cV (n := 662) (mc2 := (cc.1 + mE)) (ms2 := (cc.2 + wE)) (st := []) (C_X7_bows htr (zMok_ok hm_252) c_255) dL_law_659 rfl (lw_V q2113 q2114 q2115 q131 q2116) hcee_X7_bows rfl (by decide) hk_254 rfl rfl rfl (Nat.le_of_ble_eq_true rfl) (Nat.le_refl _) (Nat.le_refl _) ?_
      obtain ⟨h_258, e_259, hF⟩ := zlet_ob hF
      refine z_toFI e_259 ?_
      refine z_istoreE (n := 664) (lv' := [(6, .int x_256), (5, .int x_244), (0, .ref a0), (1, .ref o_4), (2, .ref 1860), (3, .ref o_19), (4, .int v4_21)]) dL_law_662 rfl rfl (by decide) rfl ?_
      refine z_aload_n (n := 665) dL_law_664 rfl 4 rfl rfl ?_
      obtain ⟨hm_260, hF⟩ := zg_some hF
      obtain ⟨n_261, hk_262, hF⟩ := zka_some hF
      obtain ⟨x_264, c_263, hF⟩ := zb1_some hF
      refine z_cV (n := 668) (mc2 := (cc.1 + mE)) (ms2 := (cc.2 + wE)) (st := []) (C_X7_thrown htr (zMok_ok hm_260) c_263) dL_law_665 rfl (lw_V q1867 q1868 q1869 q131 q1870) hcee_X7_thrown rfl (by decide) hk_262 rfl rfl rfl (Nat.le_of_ble_eq_true rfl) (Nat.le_refl _) (Nat.le_refl _) ?_
      refine z_iload (n := 670) dL_law_668 rfl 1 rfl ?_
      refine z_icmp_eq (n := 673) (t := 675) dL_law_670 rfl (by decide) (fun hc => ?_) (fun hc => ?_)
      · replace hF := (if_pos hc).symm.trans hF
        refine z_iload (n := 677) dL_law_675 rfl 1 rfl ?_
        refine z_if_ne (n := 680) (t := 692) dL_law_677 rfl (by decide) (fun hc => ?_) (fun hc => ?_)
        · replace hF := (if_pos hc).symm.trans hF
          refine z_goto (t := 2216) dL_law_692 (by decide) ?_
          obtain ⟨v4_265, e_266, hF⟩ := zlet_ob hF
          refine z_iincE (n := 2219) (w := 6) (v := v4_265) (lv' := [(4, .int v4_265), (6, .int x_256), (5, .int x_244), (0, .ref a0), (1, .ref o_4), (2, .ref 1860), (3, .ref o_19)]) dL_law_2216 rfl 6 rfl (by decide) e_266 (by decide) rfl ?_
          refine z_goto (t := 23) dL_law_2219 (by decide) ?_
          refine z_sub [3, 4, 5, 6, 0] rfl ?_
          obtain ⟨rfl, rfl⟩ := zpair hF
          refine z_eq (Nat.zero_add _) (Nat.zero_add _) ?_
          exact kl v4_265 h_258 rfl
        · replace hF := (if_neg hc).symm.trans hF
          refine z_aload_n (n := 681) dL_law_680 rfl 5 rfl rfl ?_
          refine z_iconst (n := 682) (v := 0) dL_law_681 rfl (by decide) ?_
          obtain ⟨n_267, hk_268, hF⟩ := zka_some hF
          obtain ⟨h_269, hF⟩ := zg_some hF
          refine z_laldK (n := 683) 0 (by decide) dL_law_682 rfl hk_268 (zin_ok h_269) ?_
          refine z_iload (n := 685) dL_law_683 rfl 0 rfl ?_
          refine z_i2l (n := 686) dL_law_685 rfl ?_
          refine z_lcmp (n := 687) dL_law_686 rfl ?_
          refine z_if_eq (n := 690) (t := 692) dL_law_687 rfl (by decide) (fun hc => ?_) (fun hc => ?_)
          · replace hF := (if_pos hc).symm.trans hF
            refine z_goto (t := 2216) dL_law_692 (by decide) ?_
            obtain ⟨v4_270, e_271, hF⟩ := zlet_ob hF
            refine z_iincE (n := 2219) (w := 6) (v := v4_270) (lv' := [(4, .int v4_270), (6, .int x_256), (5, .int x_244), (0, .ref a0), (1, .ref o_4), (2, .ref 1860), (3, .ref o_19)]) dL_law_2216 rfl 6 rfl (by decide) e_271 (by decide) rfl ?_
            refine z_goto (t := 23) dL_law_2219 (by decide) ?_
            refine z_sub [3, 4, 5, 6, 0] rfl ?_
            obtain ⟨rfl, rfl⟩ := zpair hF
            refine z_eq (Nat.zero_add _) (Nat.zero_add _) ?_
            exact kl v4_270 h_258 rfl
          · replace hF := (if_neg hc).symm.trans hF
            refine z_iconst (n := 691) (v := 0) dL_law_690 rfl (by decide) ?_
            obtain ⟨rfl, rfl⟩ := zpair hF
            exact z_iret dL_law_691 rfl rfl (kq _ rfl)
      · replace hF := (if_neg hc).symm.trans hF
        refine z_iconst (n := 674) (v := 0) dL_law_673 rfl (by decide) ?_
        obtain ⟨rfl, rfl⟩ := zpair hF
        exact z_iret dL_law_674 rfl rfl (kq _ rfl)
    replace hF := (if_neg ht8).symm.trans hF
    by_cases ht9 : (((hI h_22) a0 v4_21.toNatClampNeg) &&& (63 : Int32)) = 9
    · replace hF := (if_pos ht9).symm.trans hF
      refine z_tableIn (off := 655) (t := 695) dL_law_40 (by rw [ht9]; decide) (by rw [ht9]; decide) (by rw [ht9]; rfl) (by decide) ?_
      refine z_aload_n (n := 696) dL_law_695 rfl 1 rfl rfl ?_
      refine z_aload_n (n := 697) dL_law_696 rfl 0 rfl rfl ?_
      refine z_iload (n := 699) dL_law_697 rfl 4 rfl ?_
      refine z_iconst (n := 700) (v := 1) dL_law_699 rfl (by decide) ?_
      refine z_iadd (n := 701) dL_law_700 rfl ?_
      obtain ⟨h_272, hF⟩ := zg_some hF
      refine z_ialdK (n := 702) ((v4_21 + 1).toNatClampNeg) rfl dL_law_701 rfl hk_24 (zin_ok h_272) ?_
      refine z_aload_n (n := 703) dL_law_702 rfl 0 rfl rfl ?_
      refine z_iload (n := 705) dL_law_703 rfl 4 rfl ?_
      refine z_iconst (n := 706) (v := 2) dL_law_705 rfl (by decide) ?_
      refine z_iadd (n := 707) dL_law_706 rfl ?_
      obtain ⟨h_273, hF⟩ := zg_some hF
      refine z_ialdK (n := 708) ((v4_21 + 2).toNatClampNeg) rfl dL_law_707 rfl hk_24 (zin_ok h_273) ?_
      refine z_aload_n (n := 709) dL_law_708 rfl 3 rfl rfl ?_
      obtain ⟨c_277, t_278, c_274, hF⟩ := zc1_some hF
      obtain ⟨x_275, h_276⟩ := t_278
      dsimp only [zn2] at hF
      obtain ⟨cc, hF, hcc⟩ := zpay_some hF
      refine z_payE hcc ?_
      refine z_cSH (n := 712) (mc2 := (cc.1 + mE)) (ms2 := (cc.2 + wE)) (st := []) (C_X0_rest htr c_274) dL_law_709 rfl (lw_SW q1440 q1441 q104 q1442) hcee_X0_rest rfl (by decide) rfl (Nat.le_of_ble_eq_true rfl) (Nat.le_of_eq (Nat.add_comm _ _)) (Nat.le_of_eq (Nat.add_comm _ _)) ?_
      refine z_istoreE (n := 714) (lv' := [(5, .int x_275), (0, .ref a0), (1, .ref o_4), (2, .ref 1860), (3, .ref o_19), (4, .int v4_21)]) dL_law_712 rfl rfl (by decide) rfl ?_
      refine z_aload_n (n := 715) dL_law_714 rfl 3 rfl rfl ?_
      refine z_aload_n (n := 716) dL_law_715 rfl 1 rfl rfl ?_
      refine z_iload (n := 718) dL_law_716 rfl 5 rfl ?_
      refine z_iconst (n := 719) (v := 1) dL_law_718 rfl (by decide) ?_
      refine z_iadd (n := 720) dL_law_719 rfl ?_
      obtain ⟨n_279, hk_280, hF⟩ := zka_some hF
      obtain ⟨h_281, hF⟩ := zg_some hF
      refine z_ialdK (n := 721) ((v4_21 + 1).toNatClampNeg) rfl dL_law_720 rfl hk_280 (zin_ok h_281) ?_
      refine z_aload_n (n := 722) dL_law_721 rfl 1 rfl rfl ?_
      refine z_iload (n := 724) dL_law_722 rfl 5 rfl ?_
      refine z_iconst (n := 725) (v := 2) dL_law_724 rfl (by decide) ?_
      refine z_iadd (n := 726) dL_law_725 rfl ?_
      obtain ⟨h_282, hF⟩ := zg_some hF
      refine z_ialdK (n := 727) ((v4_21 + 2).toNatClampNeg) rfl dL_law_726 rfl hk_280 (zin_ok h_282) ?_
      obtain ⟨hm_283, hF⟩ := zg_some hF
      obtain ⟨n_284, hk_285, hF⟩ := zka_some hF
      obtain ⟨x_287, I_288, c_286, hF⟩ := zb2_some hF
      refine z_cV (n := 730) (mc2 := (cc.1 + mE)) (ms2 := (cc.2 + wE)) (st := []) (C_X7_rest htr (zMok_ok hm_283) c_286) dL_law_727 rfl (lw_V q2117 q2118 q2119 q131 q2120) hcee_X7_rest rfl (by decide) hk_285 rfl rfl rfl (Nat.le_of_ble_eq_true rfl) (Nat.le_refl _) (Nat.le_refl _) ?_
      obtain ⟨h_289, e_290, hF⟩ := zlet_ob hF
      refine z_toFI e_290 ?_
      refine z_istoreE (n := 732) (lv' := [(6, .int x_287), (5, .int x_275), (0, .ref a0), (1, .ref o_4), (2, .ref 1860), (3, .ref o_19), (4, .int v4_21)]) dL_law_730 rfl rfl (by decide) rfl ?_
      refine z_aload_n (n := 733) dL_law_732 rfl 4 rfl rfl ?_
      obtain ⟨hm_291, hF⟩ := zg_some hF
      obtain ⟨n_292, hk_293, hF⟩ := zka_some hF
      obtain ⟨x_295, c_294, hF⟩ := zb1_some hF
      refine z_cV (n := 736) (mc2 := (cc.1 + mE)) (ms2 := (cc.2 + wE)) (st := []) (C_X7_thrown htr (zMok_ok hm_291) c_294) dL_law_733 rfl (lw_V q1867 q1868 q1869 q131 q1870) hcee_X7_thrown rfl (by decide) hk_293 rfl rfl rfl (Nat.le_of_ble_eq_true rfl) (Nat.le_refl _) (Nat.le_refl _) ?_
      refine z_iload (n := 738) dL_law_736 rfl 1 rfl ?_
      refine z_icmp_eq (n := 741) (t := 743) dL_law_738 rfl (by decide) (fun hc => ?_) (fun hc => ?_)
      · replace hF := (if_pos hc).symm.trans hF
        refine z_iload (n := 745) dL_law_743 rfl 1 rfl ?_
        refine z_if_ne (n := 748) (t := 760) dL_law_745 rfl (by decide) (fun hc => ?_) (fun hc => ?_)
        · replace hF := (if_pos hc).symm.trans hF
          refine z_goto (t := 2216) dL_law_760 (by decide) ?_
          obtain ⟨v4_296, e_297, hF⟩ := zlet_ob hF
          refine z_iincE (n := 2219) (w := 6) (v := v4_296) (lv' := [(4, .int v4_296), (6, .int x_287), (5, .int x_275), (0, .ref a0), (1, .ref o_4), (2, .ref 1860), (3, .ref o_19)]) dL_law_2216 rfl 6 rfl (by decide) e_297 (by decide) rfl ?_
          refine z_goto (t := 23) dL_law_2219 (by decide) ?_
          refine z_sub [3, 4, 5, 6, 0] rfl ?_
          obtain ⟨rfl, rfl⟩ := zpair hF
          refine z_eq (Nat.zero_add _) (Nat.zero_add _) ?_
          exact kl v4_296 h_289 rfl
        · replace hF := (if_neg hc).symm.trans hF
          refine z_aload_n (n := 749) dL_law_748 rfl 5 rfl rfl ?_
          refine z_iconst (n := 750) (v := 0) dL_law_749 rfl (by decide) ?_
          obtain ⟨n_298, hk_299, hF⟩ := zka_some hF
          obtain ⟨h_300, hF⟩ := zg_some hF
          refine z_laldK (n := 751) 0 (by decide) dL_law_750 rfl hk_299 (zin_ok h_300) ?_
          refine z_iload (n := 753) dL_law_751 rfl 0 rfl ?_
          refine z_i2l (n := 754) dL_law_753 rfl ?_
          refine z_lcmp (n := 755) dL_law_754 rfl ?_
          refine z_if_eq (n := 758) (t := 760) dL_law_755 rfl (by decide) (fun hc => ?_) (fun hc => ?_)
          · replace hF := (if_pos hc).symm.trans hF
            refine z_goto (t := 2216) dL_law_760 (by decide) ?_
            obtain ⟨v4_301, e_302, hF⟩ := zlet_ob hF
            refine z_iincE (n := 2219) (w := 6) (v := v4_301) (lv' := [(4, .int v4_301), (6, .int x_287), (5, .int x_275), (0, .ref a0), (1, .ref o_4), (2, .ref 1860), (3, .ref o_19)]) dL_law_2216 rfl 6 rfl (by decide) e_302 (by decide) rfl ?_
            refine z_goto (t := 23) dL_law_2219 (by decide) ?_
            refine z_sub [3, 4, 5, 6, 0] rfl ?_
            obtain ⟨rfl, rfl⟩ := zpair hF
            refine z_eq (Nat.zero_add _) (Nat.zero_add _) ?_
            exact kl v4_301 h_289 rfl
          · replace hF := (if_neg hc).symm.trans hF
            refine z_iconst (n := 759) (v := 0) dL_law_758 rfl (by decide) ?_
            obtain ⟨rfl, rfl⟩ := zpair hF
            exact z_iret dL_law_759 rfl rfl (kq _ rfl)
      · replace hF := (if_neg hc).symm.trans hF
        refine z_iconst (n := 742) (v := 0) dL_law_741 rfl (by decide) ?_
        obtain ⟨rfl, rfl⟩ := zpair hF
        exact z_iret dL_law_742 rfl rfl (kq _ rfl)
    replace hF := (if_neg ht9).symm.trans hF
    by_cases ht10 : (((hI h_22) a0 v4_21.toNatClampNeg) &&& (63 : Int32)) = 10
    · replace hF := (if_pos ht10).symm.trans hF
      refine z_tableIn (off := 723) (t := 763) dL_law_40 (by rw [ht10]; decide) (by rw [ht10]; decide) (by rw [ht10]; rfl) (by decide) ?_
      refine z_aload_n (n := 764) dL_law_763 rfl 1 rfl rfl ?_
      refine z_aload_n (n := 765) dL_law_764 rfl 0 rfl rfl ?_
      refine z_iload (n := 767) dL_law_765 rfl 4 rfl ?_
      refine z_iconst (n := 768) (v := 1) dL_law_767 rfl (by decide) ?_
      refine z_iadd (n := 769) dL_law_768 rfl ?_
      obtain ⟨h_303, hF⟩ := zg_some hF
      refine z_ialdK (n := 770) ((v4_21 + 1).toNatClampNeg) rfl dL_law_769 rfl hk_24 (zin_ok h_303) ?_
      refine z_aload_n (n := 771) dL_law_770 rfl 0 rfl rfl ?_
      refine z_iload (n := 773) dL_law_771 rfl 4 rfl ?_
      refine z_iconst (n := 774) (v := 2) dL_law_773 rfl (by decide) ?_
      refine z_iadd (n := 775) dL_law_774 rfl ?_
      obtain ⟨h_304, hF⟩ := zg_some hF
      refine z_ialdK (n := 776) ((v4_21 + 2).toNatClampNeg) rfl dL_law_775 rfl hk_24 (zin_ok h_304) ?_
      refine z_aload_n (n := 777) dL_law_776 rfl 3 rfl rfl ?_
      obtain ⟨c_308, t_309, c_305, hF⟩ := zc1_some hF
      obtain ⟨x_306, h_307⟩ := t_309
      dsimp only [zn2] at hF
      obtain ⟨cc, hF, hcc⟩ := zpay_some hF
      refine z_payE hcc ?_
      refine z_cSH (n := 780) (mc2 := (cc.1 + mE)) (ms2 := (cc.2 + wE)) (st := []) (C_X0_dye htr c_305) dL_law_777 rfl (lw_SW q1447 q1448 q104 q1449) hcee_X0_dye rfl (by decide) rfl (Nat.le_of_ble_eq_true rfl) (Nat.le_of_eq (Nat.add_comm _ _)) (Nat.le_of_eq (Nat.add_comm _ _)) ?_
      refine z_istoreE (n := 782) (lv' := [(5, .int x_306), (0, .ref a0), (1, .ref o_4), (2, .ref 1860), (3, .ref o_19), (4, .int v4_21)]) dL_law_780 rfl rfl (by decide) rfl ?_
      refine z_aload_n (n := 783) dL_law_782 rfl 3 rfl rfl ?_
      refine z_aload_n (n := 784) dL_law_783 rfl 1 rfl rfl ?_
      refine z_iload (n := 786) dL_law_784 rfl 5 rfl ?_
      refine z_iconst (n := 787) (v := 1) dL_law_786 rfl (by decide) ?_
      refine z_iadd (n := 788) dL_law_787 rfl ?_
      obtain ⟨n_310, hk_311, hF⟩ := zka_some hF
      obtain ⟨h_312, hF⟩ := zg_some hF
      refine z_ialdK (n := 789) ((v4_21 + 1).toNatClampNeg) rfl dL_law_788 rfl hk_311 (zin_ok h_312) ?_
      refine z_aload_n (n := 790) dL_law_789 rfl 1 rfl rfl ?_
      refine z_iload (n := 792) dL_law_790 rfl 5 rfl ?_
      refine z_iconst (n := 793) (v := 2) dL_law_792 rfl (by decide) ?_
      refine z_iadd (n := 794) dL_law_793 rfl ?_
      obtain ⟨h_313, hF⟩ := zg_some hF
      refine z_ialdK (n := 795) ((v4_21 + 2).toNatClampNeg) rfl dL_law_794 rfl hk_311 (zin_ok h_313) ?_
      obtain ⟨hm_314, hF⟩ := zg_some hF
      obtain ⟨n_315, hk_316, hF⟩ := zka_some hF
      obtain ⟨x_318, I_319, c_317, hF⟩ := zb2_some hF
      refine z_cV (n := 798) (mc2 := (cc.1 + mE)) (ms2 := (cc.2 + wE)) (st := []) (C_X7_dye htr (zMok_ok hm_314) c_317) dL_law_795 rfl (lw_V q2122 q2123 q2124 q131 q2125) hcee_X7_dye rfl (by decide) hk_316 rfl rfl rfl (Nat.le_of_ble_eq_true rfl) (Nat.le_refl _) (Nat.le_refl _) ?_
      obtain ⟨h_320, e_321, hF⟩ := zlet_ob hF
      refine z_toFI e_321 ?_
      refine z_istoreE (n := 800) (lv' := [(6, .int x_318), (5, .int x_306), (0, .ref a0), (1, .ref o_4), (2, .ref 1860), (3, .ref o_19), (4, .int v4_21)]) dL_law_798 rfl rfl (by decide) rfl ?_
      refine z_aload_n (n := 801) dL_law_800 rfl 4 rfl rfl ?_
      obtain ⟨hm_322, hF⟩ := zg_some hF
      obtain ⟨n_323, hk_324, hF⟩ := zka_some hF
      obtain ⟨x_326, c_325, hF⟩ := zb1_some hF
      refine z_cV (n := 804) (mc2 := (cc.1 + mE)) (ms2 := (cc.2 + wE)) (st := []) (C_X7_thrown htr (zMok_ok hm_322) c_325) dL_law_801 rfl (lw_V q1867 q1868 q1869 q131 q1870) hcee_X7_thrown rfl (by decide) hk_324 rfl rfl rfl (Nat.le_of_ble_eq_true rfl) (Nat.le_refl _) (Nat.le_refl _) ?_
      refine z_iload (n := 806) dL_law_804 rfl 1 rfl ?_
      refine z_icmp_eq (n := 809) (t := 811) dL_law_806 rfl (by decide) (fun hc => ?_) (fun hc => ?_)
      · replace hF := (if_pos hc).symm.trans hF
        refine z_iload (n := 813) dL_law_811 rfl 1 rfl ?_
        refine z_if_ne (n := 816) (t := 828) dL_law_813 rfl (by decide) (fun hc => ?_) (fun hc => ?_)
        · replace hF := (if_pos hc).symm.trans hF
          refine z_goto (t := 2216) dL_law_828 (by decide) ?_
          obtain ⟨v4_327, e_328, hF⟩ := zlet_ob hF
          refine z_iincE (n := 2219) (w := 6) (v := v4_327) (lv' := [(4, .int v4_327), (6, .int x_318), (5, .int x_306), (0, .ref a0), (1, .ref o_4), (2, .ref 1860), (3, .ref o_19)]) dL_law_2216 rfl 6 rfl (by decide) e_328 (by decide) rfl ?_
          refine z_goto (t := 23) dL_law_2219 (by decide) ?_
          refine z_sub [3, 4, 5, 6, 0] rfl ?_
          obtain ⟨rfl, rfl⟩ := zpair hF
          refine z_eq (Nat.zero_add _) (Nat.zero_add _) ?_
          exact kl v4_327 h_320 rfl
        · replace hF := (if_neg hc).symm.trans hF
          refine z_aload_n (n := 817) dL_law_816 rfl 5 rfl rfl ?_
          refine z_iconst (n := 818) (v := 0) dL_law_817 rfl (by decide) ?_
          obtain ⟨n_329, hk_330, hF⟩ := zka_some hF
          obtain ⟨h_331, hF⟩ := zg_some hF
          refine z_laldK (n := 819) 0 (by decide) dL_law_818 rfl hk_330 (zin_ok h_331) ?_
          refine z_iload (n := 821) dL_law_819 rfl 0 rfl ?_
          refine z_i2l (n := 822) dL_law_821 rfl ?_
          refine z_lcmp (n := 823) dL_law_822 rfl ?_
          refine z_if_eq (n := 826) (t := 828) dL_law_823 rfl (by decide) (fun hc => ?_) (fun hc => ?_)
          · replace hF := (if_pos hc).symm.trans hF
            refine z_goto (t := 2216) dL_law_828 (by decide) ?_
            obtain ⟨v4_332, e_333, hF⟩ := zlet_ob hF
            refine z_iincE (n := 2219) (w := 6) (v := v4_332) (lv' := [(4, .int v4_332), (6, .int x_318), (5, .int x_306), (0, .ref a0), (1, .ref o_4), (2, .ref 1860), (3, .ref o_19)]) dL_law_2216 rfl 6 rfl (by decide) e_333 (by decide) rfl ?_
            refine z_goto (t := 23) dL_law_2219 (by decide) ?_
            refine z_sub [3, 4, 5, 6, 0] rfl ?_
            obtain ⟨rfl, rfl⟩ := zpair hF
            refine z_eq (Nat.zero_add _) (Nat.zero_add _) ?_
            exact kl v4_332 h_320 rfl
          · replace hF := (if_neg hc).symm.trans hF
            refine z_iconst (n := 827) (v := 0) dL_law_826 rfl (by decide) ?_
            obtain ⟨rfl, rfl⟩ := zpair hF
            exact z_iret dL_law_827 rfl rfl (kq _ rfl)
      · replace hF := (if_neg hc).symm.trans hF
        refine z_iconst (n := 810) (v := 0) dL_law_809 rfl (by decide) ?_
        obtain ⟨rfl, rfl⟩ := zpair hF
        exact z_iret dL_law_810 rfl rfl (kq _ rfl)
    replace hF := (if_neg ht10).symm.trans hF
    by_cases ht11 : (((hI h_22) a0 v4_21.toNatClampNeg) &&& (63 : Int32)) = 11
    · replace hF := (if_pos ht11).symm.trans hF
      refine z_tableIn (off := 791) (t := 831) dL_law_40 (by rw [ht11]; decide) (by rw [ht11]; decide) (by rw [ht11]; rfl) (by decide) ?_
      refine z_aload_n (n := 832) dL_law_831 rfl 1 rfl rfl ?_
      refine z_aload_n (n := 833) dL_law_832 rfl 0 rfl rfl ?_
      refine z_iload (n := 835) dL_law_833 rfl 4 rfl ?_
      refine z_iconst (n := 836) (v := 1) dL_law_835 rfl (by decide) ?_
      refine z_iadd (n := 837) dL_law_836 rfl ?_
      obtain ⟨h_334, hF⟩ := zg_some hF
      refine z_ialdK (n := 838) ((v4_21 + 1).toNatClampNeg) rfl dL_law_837 rfl hk_24 (zin_ok h_334) ?_
      refine z_aload_n (n := 839) dL_law_838 rfl 3 rfl rfl ?_
      obtain ⟨c_338, t_339, c_335, hF⟩ := zc1_some hF
      obtain ⟨x_336, h_337⟩ := t_339
      dsimp only [zn2] at hF
      obtain ⟨cc, hF, hcc⟩ := zpay_some hF
      refine z_payE hcc ?_
      refine z_cSH (n := 842) (mc2 := (cc.1 + mE)) (ms2 := (cc.2 + wE)) (st := []) (C_X0_forgive htr c_335) dL_law_839 rfl (lw_SW q1455 q1456 q104 q1457) hcee_X0_forgive rfl (by decide) rfl (Nat.le_of_ble_eq_true rfl) (Nat.le_of_eq (Nat.add_comm _ _)) (Nat.le_of_eq (Nat.add_comm _ _)) ?_
      refine z_istoreE (n := 844) (lv' := [(5, .int x_336), (0, .ref a0), (1, .ref o_4), (2, .ref 1860), (3, .ref o_19), (4, .int v4_21)]) dL_law_842 rfl rfl (by decide) rfl ?_
      refine z_aload_n (n := 845) dL_law_844 rfl 3 rfl rfl ?_
      refine z_aload_n (n := 846) dL_law_845 rfl 1 rfl rfl ?_
      refine z_iload (n := 848) dL_law_846 rfl 5 rfl ?_
      refine z_iconst (n := 849) (v := 1) dL_law_848 rfl (by decide) ?_
      refine z_iadd (n := 850) dL_law_849 rfl ?_
      obtain ⟨n_340, hk_341, hF⟩ := zka_some hF
      obtain ⟨h_342, hF⟩ := zg_some hF
      refine z_ialdK (n := 851) ((v4_21 + 1).toNatClampNeg) rfl dL_law_850 rfl hk_341 (zin_ok h_342) ?_
      obtain ⟨hm_343, hF⟩ := zg_some hF
      obtain ⟨n_344, hk_345, hF⟩ := zka_some hF
      obtain ⟨x_347, I_348, c_346, hF⟩ := zb2_some hF
      refine z_cV (n := 854) (mc2 := (cc.1 + mE)) (ms2 := (cc.2 + wE)) (st := []) (C_X7_forgive htr (zMok_ok hm_343) c_346) dL_law_851 rfl (lw_V q2127 q2128 q2129 q131 q2130) hcee_X7_forgive rfl (by decide) hk_345 rfl rfl rfl (Nat.le_of_ble_eq_true rfl) (Nat.le_refl _) (Nat.le_refl _) ?_
      obtain ⟨h_349, e_350, hF⟩ := zlet_ob hF
      refine z_toFI e_350 ?_
      refine z_istoreE (n := 856) (lv' := [(6, .int x_347), (5, .int x_336), (0, .ref a0), (1, .ref o_4), (2, .ref 1860), (3, .ref o_19), (4, .int v4_21)]) dL_law_854 rfl rfl (by decide) rfl ?_
      refine z_aload_n (n := 857) dL_law_856 rfl 4 rfl rfl ?_
      obtain ⟨hm_351, hF⟩ := zg_some hF
      obtain ⟨n_352, hk_353, hF⟩ := zka_some hF
      obtain ⟨x_355, c_354, hF⟩ := zb1_some hF
      refine z_cV (n := 860) (mc2 := (cc.1 + mE)) (ms2 := (cc.2 + wE)) (st := []) (C_X7_thrown htr (zMok_ok hm_351) c_354) dL_law_857 rfl (lw_V q1867 q1868 q1869 q131 q1870) hcee_X7_thrown rfl (by decide) hk_353 rfl rfl rfl (Nat.le_of_ble_eq_true rfl) (Nat.le_refl _) (Nat.le_refl _) ?_
      refine z_iload (n := 862) dL_law_860 rfl 1 rfl ?_
      refine z_icmp_eq (n := 865) (t := 867) dL_law_862 rfl (by decide) (fun hc => ?_) (fun hc => ?_)
      · replace hF := (if_pos hc).symm.trans hF
        refine z_iload (n := 869) dL_law_867 rfl 1 rfl ?_
        refine z_if_ne (n := 872) (t := 884) dL_law_869 rfl (by decide) (fun hc => ?_) (fun hc => ?_)
        · replace hF := (if_pos hc).symm.trans hF
          refine z_goto (t := 2216) dL_law_884 (by decide) ?_
          obtain ⟨v4_356, e_357, hF⟩ := zlet_ob hF
          refine z_iincE (n := 2219) (w := 6) (v := v4_356) (lv' := [(4, .int v4_356), (6, .int x_347), (5, .int x_336), (0, .ref a0), (1, .ref o_4), (2, .ref 1860), (3, .ref o_19)]) dL_law_2216 rfl 6 rfl (by decide) e_357 (by decide) rfl ?_
          refine z_goto (t := 23) dL_law_2219 (by decide) ?_
          refine z_sub [3, 4, 5, 6, 0] rfl ?_
          obtain ⟨rfl, rfl⟩ := zpair hF
          refine z_eq (Nat.zero_add _) (Nat.zero_add _) ?_
          exact kl v4_356 h_349 rfl
        · replace hF := (if_neg hc).symm.trans hF
          refine z_aload_n (n := 873) dL_law_872 rfl 5 rfl rfl ?_
          refine z_iconst (n := 874) (v := 0) dL_law_873 rfl (by decide) ?_
          obtain ⟨n_358, hk_359, hF⟩ := zka_some hF
          obtain ⟨h_360, hF⟩ := zg_some hF
          refine z_laldK (n := 875) 0 (by decide) dL_law_874 rfl hk_359 (zin_ok h_360) ?_
          refine z_iload (n := 877) dL_law_875 rfl 0 rfl ?_
          refine z_i2l (n := 878) dL_law_877 rfl ?_
          refine z_lcmp (n := 879) dL_law_878 rfl ?_
          refine z_if_eq (n := 882) (t := 884) dL_law_879 rfl (by decide) (fun hc => ?_) (fun hc => ?_)
          · replace hF := (if_pos hc).symm.trans hF
            refine z_goto (t := 2216) dL_law_884 (by decide) ?_
            obtain ⟨v4_361, e_362, hF⟩ := zlet_ob hF
            refine z_iincE (n := 2219) (w := 6) (v := v4_361) (lv' := [(4, .int v4_361), (6, .int x_347), (5, .int x_336), (0, .ref a0), (1, .ref o_4), (2, .ref 1860), (3, .ref o_19)]) dL_law_2216 rfl 6 rfl (by decide) e_362 (by decide) rfl ?_
            refine z_goto (t := 23) dL_law_2219 (by decide) ?_
            refine z_sub [3, 4, 5, 6, 0] rfl ?_
            obtain ⟨rfl, rfl⟩ := zpair hF
            refine z_eq (Nat.zero_add _) (Nat.zero_add _) ?_
            exact kl v4_361 h_349 rfl
          · replace hF := (if_neg hc).symm.trans hF
            refine z_iconst (n := 883) (v := 0) dL_law_882 rfl (by decide) ?_
            obtain ⟨rfl, rfl⟩ := zpair hF
            exact z_iret dL_law_883 rfl rfl (kq _ rfl)
      · replace hF := (if_neg hc).symm.trans hF
        refine z_iconst (n := 866) (v := 0) dL_law_865 rfl (by decide) ?_
        obtain ⟨rfl, rfl⟩ := zpair hF
        exact z_iret dL_law_866 rfl rfl (kq _ rfl)
    replace hF := (if_neg ht11).symm.trans hF
    by_cases ht12 : (((hI h_22) a0 v4_21.toNatClampNeg) &&& (63 : Int32)) = 12
    · replace hF := (if_pos ht12).symm.trans hF
      refine z_tableIn (off := 847) (t := 887) dL_law_40 (by rw [ht12]; decide) (by rw [ht12]; decide) (by rw [ht12]; rfl) (by decide) ?_
      refine z_aload_n (n := 888) dL_law_887 rfl 1 rfl rfl ?_
      obtain ⟨n_363, hk_364, hF⟩ := zka_some hF
      obtain ⟨x_366, I_367, c_365, hF⟩ := zb2_some hF
      refine z_cV (n := 891) (mc2 := (cc.1 + mE)) (ms2 := (cc.2 + wE)) (st := []) (C_X1_undo htr c_365) dL_law_888 rfl (lw_V q913 q914 q915 q105 q916) hcee_X1_undo rfl (by decide) hk_364 rfl rfl rfl (Nat.le_of_ble_eq_true rfl) (Nat.le_refl _) (Nat.le_refl _) ?_
      obtain ⟨h_368, e_369, hF⟩ := zlet_ob hF
      refine z_toFI e_369 ?_
      refine z_aload_n (n := 892) dL_law_891 rfl 2 rfl rfl ?_
      obtain ⟨hm_370, hF⟩ := zg_some hF
      obtain ⟨n_371, hk_372, hF⟩ := zka_some hF
      obtain ⟨x_374, I_375, c_373, hF⟩ := zb2_some hF
      refine z_cV (n := 895) (mc2 := (cc.1 + mE)) (ms2 := (cc.2 + wE)) (st := [.int x_366]) (C_X7_undo htr (zMok_ok hm_370) c_373) dL_law_892 rfl (lw_V q2131 q2132 q2133 q131 q2134) hcee_X7_undo rfl (by decide) hk_372 rfl rfl rfl (Nat.le_of_ble_eq_true rfl) (Nat.le_refl _) (Nat.le_refl _) ?_
      obtain ⟨h_376, e_377, hF⟩ := zlet_ob hF
      refine z_toFI e_377 ?_
      refine z_icmp_eq (n := 898) (t := 2216) dL_law_895 rfl (by decide) (fun hc => ?_) (fun hc => ?_)
      · replace hF := (if_pos hc).symm.trans hF
        obtain ⟨v4_378, e_379, hF⟩ := zlet_ob hF
        refine z_iincE (n := 2219) (w := 6) (v := v4_378) (lv' := [(4, .int v4_378), (0, .ref a0), (1, .ref o_4), (2, .ref 1860), (3, .ref o_19)]) dL_law_2216 rfl 4 rfl (by decide) e_379 (by decide) rfl ?_
        refine z_goto (t := 23) dL_law_2219 (by decide) ?_
        refine z_sub [1, 2, 3, 4, 0] rfl ?_
        obtain ⟨rfl, rfl⟩ := zpair hF
        refine z_eq (Nat.zero_add _) (Nat.zero_add _) ?_
        exact kl v4_378 h_376 rfl
      · replace hF := (if_neg hc).symm.trans hF
        refine z_iconst (n := 899) (v := 0) dL_law_898 rfl (by decide) ?_
        obtain ⟨rfl, rfl⟩ := zpair hF
        exact z_iret dL_law_899 rfl rfl (kq _ rfl)
    replace hF := (if_neg ht12).symm.trans hF
    by_cases ht13 : (((hI h_22) a0 v4_21.toNatClampNeg) &&& (63 : Int32)) = 13
    · replace hF := (if_pos ht13).symm.trans hF
      refine z_tableIn (off := 860) (t := 900) dL_law_40 (by rw [ht13]; decide) (by rw [ht13]; decide) (by rw [ht13]; rfl) (by decide) ?_
      refine z_aload_n (n := 901) dL_law_900 rfl 1 rfl rfl ?_
      refine z_aload_n (n := 902) dL_law_901 rfl 0 rfl rfl ?_
      refine z_iload (n := 904) dL_law_902 rfl 4 rfl ?_
      refine z_iconst (n := 905) (v := 1) dL_law_904 rfl (by decide) ?_
      refine z_iadd (n := 906) dL_law_905 rfl ?_
      obtain ⟨h_380, hF⟩ := zg_some hF
      refine z_ialdK (n := 907) ((v4_21 + 1).toNatClampNeg) rfl dL_law_906 rfl hk_24 (zin_ok h_380) ?_
      refine z_aload_n (n := 908) dL_law_907 rfl 0 rfl rfl ?_
      refine z_iload (n := 910) dL_law_908 rfl 4 rfl ?_
      refine z_iconst (n := 911) (v := 2) dL_law_910 rfl (by decide) ?_
      refine z_iadd (n := 912) dL_law_911 rfl ?_
      obtain ⟨h_381, hF⟩ := zg_some hF
      refine z_ialdK (n := 913) ((v4_21 + 2).toNatClampNeg) rfl dL_law_912 rfl hk_24 (zin_ok h_381) ?_
      refine z_aload_n (n := 914) dL_law_913 rfl 3 rfl rfl ?_
      obtain ⟨c_385, t_386, c_382, hF⟩ := zc1_some hF
      obtain ⟨x_383, h_384⟩ := t_386
      dsimp only [zn2] at hF
      obtain ⟨cc, hF, hcc⟩ := zpay_some hF
      refine z_payE hcc ?_
      refine z_cSH (n := 917) (mc2 := (cc.1 + mE)) (ms2 := (cc.2 + wE)) (st := []) (C_X0_then htr c_382) dL_law_914 rfl (lw_SW q1462 q1463 q104 q1464) hcee_X0_then rfl (by decide) rfl (Nat.le_of_ble_eq_true rfl) (Nat.le_of_eq (Nat.add_comm _ _)) (Nat.le_of_eq (Nat.add_comm _ _)) ?_
      refine z_istoreE (n := 919) (lv' := [(5, .int x_383), (0, .ref a0), (1, .ref o_4), (2, .ref 1860), (3, .ref o_19), (4, .int v4_21)]) dL_law_917 rfl rfl (by decide) rfl ?_
      refine z_aload_n (n := 920) dL_law_919 rfl 3 rfl rfl ?_
      refine z_aload_n (n := 921) dL_law_920 rfl 1 rfl rfl ?_
      refine z_iload (n := 923) dL_law_921 rfl 5 rfl ?_
      refine z_iconst (n := 924) (v := 1) dL_law_923 rfl (by decide) ?_
      refine z_iadd (n := 925) dL_law_924 rfl ?_
      obtain ⟨n_387, hk_388, hF⟩ := zka_some hF
      obtain ⟨h_389, hF⟩ := zg_some hF
      refine z_ialdK (n := 926) ((v4_21 + 1).toNatClampNeg) rfl dL_law_925 rfl hk_388 (zin_ok h_389) ?_
      refine z_aload_n (n := 927) dL_law_926 rfl 1 rfl rfl ?_
      refine z_iload (n := 929) dL_law_927 rfl 5 rfl ?_
      refine z_iconst (n := 930) (v := 2) dL_law_929 rfl (by decide) ?_
      refine z_iadd (n := 931) dL_law_930 rfl ?_
      obtain ⟨h_390, hF⟩ := zg_some hF
      refine z_ialdK (n := 932) ((v4_21 + 2).toNatClampNeg) rfl dL_law_931 rfl hk_388 (zin_ok h_390) ?_
      obtain ⟨hm_391, hF⟩ := zg_some hF
      obtain ⟨n_392, hk_393, hF⟩ := zka_some hF
      obtain ⟨x_395, I_396, c_394, hF⟩ := zb2_some hF
      refine z_cV (n := 935) (mc2 := (cc.1 + mE)) (ms2 := (cc.2 + wE)) (st := []) (C_X7_then htr (zMok_ok hm_391) c_394) dL_law_932 rfl (lw_V q2139 q2140 q2141 q131 q2142) hcee_X7_then rfl (by decide) hk_393 rfl rfl rfl (Nat.le_of_ble_eq_true rfl) (Nat.le_refl _) (Nat.le_refl _) ?_
      obtain ⟨h_397, e_398, hF⟩ := zlet_ob hF
      refine z_toFI e_398 ?_
      refine z_istoreE (n := 937) (lv' := [(6, .int x_395), (5, .int x_383), (0, .ref a0), (1, .ref o_4), (2, .ref 1860), (3, .ref o_19), (4, .int v4_21)]) dL_law_935 rfl rfl (by decide) rfl ?_
      refine z_aload_n (n := 938) dL_law_937 rfl 4 rfl rfl ?_
      obtain ⟨hm_399, hF⟩ := zg_some hF
      obtain ⟨n_400, hk_401, hF⟩ := zka_some hF
      obtain ⟨x_403, c_402, hF⟩ := zb1_some hF
      refine z_cV (n := 941) (mc2 := (cc.1 + mE)) (ms2 := (cc.2 + wE)) (st := []) (C_X7_thrown htr (zMok_ok hm_399) c_402) dL_law_938 rfl (lw_V q1867 q1868 q1869 q131 q1870) hcee_X7_thrown rfl (by decide) hk_401 rfl rfl rfl (Nat.le_of_ble_eq_true rfl) (Nat.le_refl _) (Nat.le_refl _) ?_
      refine z_iload (n := 943) dL_law_941 rfl 1 rfl ?_
      refine z_icmp_eq (n := 946) (t := 948) dL_law_943 rfl (by decide) (fun hc => ?_) (fun hc => ?_)
      · replace hF := (if_pos hc).symm.trans hF
        refine z_iload (n := 950) dL_law_948 rfl 1 rfl ?_
        refine z_if_ne (n := 953) (t := 965) dL_law_950 rfl (by decide) (fun hc => ?_) (fun hc => ?_)
        · replace hF := (if_pos hc).symm.trans hF
          refine z_goto (t := 2216) dL_law_965 (by decide) ?_
          obtain ⟨v4_404, e_405, hF⟩ := zlet_ob hF
          refine z_iincE (n := 2219) (w := 6) (v := v4_404) (lv' := [(4, .int v4_404), (6, .int x_395), (5, .int x_383), (0, .ref a0), (1, .ref o_4), (2, .ref 1860), (3, .ref o_19)]) dL_law_2216 rfl 6 rfl (by decide) e_405 (by decide) rfl ?_
          refine z_goto (t := 23) dL_law_2219 (by decide) ?_
          refine z_sub [3, 4, 5, 6, 0] rfl ?_
          obtain ⟨rfl, rfl⟩ := zpair hF
          refine z_eq (Nat.zero_add _) (Nat.zero_add _) ?_
          exact kl v4_404 h_397 rfl
        · replace hF := (if_neg hc).symm.trans hF
          refine z_aload_n (n := 954) dL_law_953 rfl 5 rfl rfl ?_
          refine z_iconst (n := 955) (v := 0) dL_law_954 rfl (by decide) ?_
          obtain ⟨n_406, hk_407, hF⟩ := zka_some hF
          obtain ⟨h_408, hF⟩ := zg_some hF
          refine z_laldK (n := 956) 0 (by decide) dL_law_955 rfl hk_407 (zin_ok h_408) ?_
          refine z_iload (n := 958) dL_law_956 rfl 0 rfl ?_
          refine z_i2l (n := 959) dL_law_958 rfl ?_
          refine z_lcmp (n := 960) dL_law_959 rfl ?_
          refine z_if_eq (n := 963) (t := 965) dL_law_960 rfl (by decide) (fun hc => ?_) (fun hc => ?_)
          · replace hF := (if_pos hc).symm.trans hF
            refine z_goto (t := 2216) dL_law_965 (by decide) ?_
            obtain ⟨v4_409, e_410, hF⟩ := zlet_ob hF
            refine z_iincE (n := 2219) (w := 6) (v := v4_409) (lv' := [(4, .int v4_409), (6, .int x_395), (5, .int x_383), (0, .ref a0), (1, .ref o_4), (2, .ref 1860), (3, .ref o_19)]) dL_law_2216 rfl 6 rfl (by decide) e_410 (by decide) rfl ?_
            refine z_goto (t := 23) dL_law_2219 (by decide) ?_
            refine z_sub [3, 4, 5, 6, 0] rfl ?_
            obtain ⟨rfl, rfl⟩ := zpair hF
            refine z_eq (Nat.zero_add _) (Nat.zero_add _) ?_
            exact kl v4_409 h_397 rfl
          · replace hF := (if_neg hc).symm.trans hF
            refine z_iconst (n := 964) (v := 0) dL_law_963 rfl (by decide) ?_
            obtain ⟨rfl, rfl⟩ := zpair hF
            exact z_iret dL_law_964 rfl rfl (kq _ rfl)
      · replace hF := (if_neg hc).symm.trans hF
        refine z_iconst (n := 947) (v := 0) dL_law_946 rfl (by decide) ?_
        obtain ⟨rfl, rfl⟩ := zpair hF
        exact z_iret dL_law_947 rfl rfl (kq _ rfl)
    replace hF := (if_neg ht13).symm.trans hF
    by_cases ht14 : (((hI h_22) a0 v4_21.toNatClampNeg) &&& (63 : Int32)) = 14
    · replace hF := (if_pos ht14).symm.trans hF
      refine z_tableIn (off := 928) (t := 968) dL_law_40 (by rw [ht14]; decide) (by rw [ht14]; decide) (by rw [ht14]; rfl) (by decide) ?_
      refine z_aload_n (n := 969) dL_law_968 rfl 1 rfl rfl ?_
      refine z_aload_n (n := 970) dL_law_969 rfl 0 rfl rfl ?_
      refine z_iload (n := 972) dL_law_970 rfl 4 rfl ?_
      refine z_iconst (n := 973) (v := 1) dL_law_972 rfl (by decide) ?_
      refine z_iadd (n := 974) dL_law_973 rfl ?_
      obtain ⟨h_411, hF⟩ := zg_some hF
      refine z_ialdK (n := 975) ((v4_21 + 1).toNatClampNeg) rfl dL_law_974 rfl hk_24 (zin_ok h_411) ?_
      refine z_aload_n (n := 976) dL_law_975 rfl 3 rfl rfl ?_
      obtain ⟨c_415, t_416, c_412, hF⟩ := zc1_some hF
      obtain ⟨x_413, h_414⟩ := t_416
      dsimp only [zn2] at hF
      obtain ⟨cc, hF, hcc⟩ := zpay_some hF
      refine z_payE hcc ?_
      refine z_cSH (n := 979) (mc2 := (cc.1 + mE)) (ms2 := (cc.2 + wE)) (st := []) (C_X0_empty htr c_412) dL_law_976 rfl (lw_SW q1473 q1474 q104 q1475) hcee_X0_empty rfl (by decide) rfl (Nat.le_of_ble_eq_true rfl) (Nat.le_of_eq (Nat.add_comm _ _)) (Nat.le_of_eq (Nat.add_comm _ _)) ?_
      refine z_istoreE (n := 981) (lv' := [(5, .int x_413), (0, .ref a0), (1, .ref o_4), (2, .ref 1860), (3, .ref o_19), (4, .int v4_21)]) dL_law_979 rfl rfl (by decide) rfl ?_
      refine z_aload_n (n := 982) dL_law_981 rfl 3 rfl rfl ?_
      refine z_aload_n (n := 983) dL_law_982 rfl 1 rfl rfl ?_
      refine z_iload (n := 985) dL_law_983 rfl 5 rfl ?_
      refine z_iconst (n := 986) (v := 1) dL_law_985 rfl (by decide) ?_
      refine z_iadd (n := 987) dL_law_986 rfl ?_
      obtain ⟨n_417, hk_418, hF⟩ := zka_some hF
      obtain ⟨h_419, hF⟩ := zg_some hF
      refine z_ialdK (n := 988) ((v4_21 + 1).toNatClampNeg) rfl dL_law_987 rfl hk_418 (zin_ok h_419) ?_
      obtain ⟨hm_420, hF⟩ := zg_some hF
      obtain ⟨n_421, hk_422, hF⟩ := zka_some hF
      obtain ⟨x_424, I_425, c_423, hF⟩ := zb2_some hF
      refine z_cV (n := 991) (mc2 := (cc.1 + mE)) (ms2 := (cc.2 + wE)) (st := []) (C_X7_empty htr (zMok_ok hm_420) c_423) dL_law_988 rfl (lw_V q2143 q2144 q2145 q131 q2146) hcee_X7_empty rfl (by decide) hk_422 rfl rfl rfl (Nat.le_of_ble_eq_true rfl) (Nat.le_refl _) (Nat.le_refl _) ?_
      obtain ⟨h_426, e_427, hF⟩ := zlet_ob hF
      refine z_toFI e_427 ?_
      refine z_istoreE (n := 993) (lv' := [(6, .int x_424), (5, .int x_413), (0, .ref a0), (1, .ref o_4), (2, .ref 1860), (3, .ref o_19), (4, .int v4_21)]) dL_law_991 rfl rfl (by decide) rfl ?_
      refine z_aload_n (n := 994) dL_law_993 rfl 4 rfl rfl ?_
      obtain ⟨hm_428, hF⟩ := zg_some hF
      obtain ⟨n_429, hk_430, hF⟩ := zka_some hF
      obtain ⟨x_432, c_431, hF⟩ := zb1_some hF
      refine z_cV (n := 997) (mc2 := (cc.1 + mE)) (ms2 := (cc.2 + wE)) (st := []) (C_X7_thrown htr (zMok_ok hm_428) c_431) dL_law_994 rfl (lw_V q1867 q1868 q1869 q131 q1870) hcee_X7_thrown rfl (by decide) hk_430 rfl rfl rfl (Nat.le_of_ble_eq_true rfl) (Nat.le_refl _) (Nat.le_refl _) ?_
      refine z_iload (n := 999) dL_law_997 rfl 1 rfl ?_
      refine z_icmp_eq (n := 1002) (t := 1004) dL_law_999 rfl (by decide) (fun hc => ?_) (fun hc => ?_)
      · replace hF := (if_pos hc).symm.trans hF
        refine z_iload (n := 1006) dL_law_1004 rfl 1 rfl ?_
        refine z_if_ne (n := 1009) (t := 1021) dL_law_1006 rfl (by decide) (fun hc => ?_) (fun hc => ?_)
        · replace hF := (if_pos hc).symm.trans hF
          refine z_goto (t := 2216) dL_law_1021 (by decide) ?_
          obtain ⟨v4_433, e_434, hF⟩ := zlet_ob hF
          refine z_iincE (n := 2219) (w := 6) (v := v4_433) (lv' := [(4, .int v4_433), (6, .int x_424), (5, .int x_413), (0, .ref a0), (1, .ref o_4), (2, .ref 1860), (3, .ref o_19)]) dL_law_2216 rfl 6 rfl (by decide) e_434 (by decide) rfl ?_
          refine z_goto (t := 23) dL_law_2219 (by decide) ?_
          refine z_sub [3, 4, 5, 6, 0] rfl ?_
          obtain ⟨rfl, rfl⟩ := zpair hF
          refine z_eq (Nat.zero_add _) (Nat.zero_add _) ?_
          exact kl v4_433 h_426 rfl
        · replace hF := (if_neg hc).symm.trans hF
          refine z_aload_n (n := 1010) dL_law_1009 rfl 5 rfl rfl ?_
          refine z_iconst (n := 1011) (v := 0) dL_law_1010 rfl (by decide) ?_
          obtain ⟨n_435, hk_436, hF⟩ := zka_some hF
          obtain ⟨h_437, hF⟩ := zg_some hF
          refine z_laldK (n := 1012) 0 (by decide) dL_law_1011 rfl hk_436 (zin_ok h_437) ?_
          refine z_iload (n := 1014) dL_law_1012 rfl 0 rfl ?_
          refine z_i2l (n := 1015) dL_law_1014 rfl ?_
          refine z_lcmp (n := 1016) dL_law_1015 rfl ?_
          refine z_if_eq (n := 1019) (t := 1021) dL_law_1016 rfl (by decide) (fun hc => ?_) (fun hc => ?_)
          · replace hF := (if_pos hc).symm.trans hF
            refine z_goto (t := 2216) dL_law_1021 (by decide) ?_
            obtain ⟨v4_438, e_439, hF⟩ := zlet_ob hF
            refine z_iincE (n := 2219) (w := 6) (v := v4_438) (lv' := [(4, .int v4_438), (6, .int x_424), (5, .int x_413), (0, .ref a0), (1, .ref o_4), (2, .ref 1860), (3, .ref o_19)]) dL_law_2216 rfl 6 rfl (by decide) e_439 (by decide) rfl ?_
            refine z_goto (t := 23) dL_law_2219 (by decide) ?_
            refine z_sub [3, 4, 5, 6, 0] rfl ?_
            obtain ⟨rfl, rfl⟩ := zpair hF
            refine z_eq (Nat.zero_add _) (Nat.zero_add _) ?_
            exact kl v4_438 h_426 rfl
          · replace hF := (if_neg hc).symm.trans hF
            refine z_iconst (n := 1020) (v := 0) dL_law_1019 rfl (by decide) ?_
            obtain ⟨rfl, rfl⟩ := zpair hF
            exact z_iret dL_law_1020 rfl rfl (kq _ rfl)
      · replace hF := (if_neg hc).symm.trans hF
        refine z_iconst (n := 1003) (v := 0) dL_law_1002 rfl (by decide) ?_
        obtain ⟨rfl, rfl⟩ := zpair hF
        exact z_iret dL_law_1003 rfl rfl (kq _ rfl)
    replace hF := (if_neg ht14).symm.trans hF
    by_cases ht15 : (((hI h_22) a0 v4_21.toNatClampNeg) &&& (63 : Int32)) = 15
    · replace hF := (if_pos ht15).symm.trans hF
      refine z_tableIn (off := 984) (t := 1024) dL_law_40 (by rw [ht15]; decide) (by rw [ht15]; decide) (by rw [ht15]; rfl) (by decide) ?_
      refine z_aload_n (n := 1025) dL_law_1024 rfl 1 rfl rfl ?_
      refine z_aload_n (n := 1026) dL_law_1025 rfl 0 rfl rfl ?_
      refine z_iload (n := 1028) dL_law_1026 rfl 4 rfl ?_
      refine z_iconst (n := 1029) (v := 1) dL_law_1028 rfl (by decide) ?_
      refine z_iadd (n := 1030) dL_law_1029 rfl ?_
      obtain ⟨h_440, hF⟩ := zg_some hF
      refine z_ialdK (n := 1031) ((v4_21 + 1).toNatClampNeg) rfl dL_law_1030 rfl hk_24 (zin_ok h_440) ?_
      refine z_aload_n (n := 1032) dL_law_1031 rfl 0 rfl rfl ?_
      refine z_iload (n := 1034) dL_law_1032 rfl 4 rfl ?_
      refine z_iconst (n := 1035) (v := 2) dL_law_1034 rfl (by decide) ?_
      refine z_iadd (n := 1036) dL_law_1035 rfl ?_
      obtain ⟨h_441, hF⟩ := zg_some hF
      refine z_ialdK (n := 1037) ((v4_21 + 2).toNatClampNeg) rfl dL_law_1036 rfl hk_24 (zin_ok h_441) ?_
      refine z_aload_n (n := 1038) dL_law_1037 rfl 3 rfl rfl ?_
      obtain ⟨c_445, t_446, c_442, hF⟩ := zc1_some hF
      obtain ⟨x_443, h_444⟩ := t_446
      dsimp only [zn2] at hF
      obtain ⟨cc, hF, hcc⟩ := zpay_some hF
      refine z_payE hcc ?_
      refine z_cSH (n := 1041) (mc2 := (cc.1 + mE)) (ms2 := (cc.2 + wE)) (st := []) (C_X0_paid htr c_442) dL_law_1038 rfl (lw_SW q1480 q1481 q104 q1482) hcee_X0_paid rfl (by decide) rfl (Nat.le_of_ble_eq_true rfl) (Nat.le_of_eq (Nat.add_comm _ _)) (Nat.le_of_eq (Nat.add_comm _ _)) ?_
      refine z_istoreE (n := 1043) (lv' := [(5, .int x_443), (0, .ref a0), (1, .ref o_4), (2, .ref 1860), (3, .ref o_19), (4, .int v4_21)]) dL_law_1041 rfl rfl (by decide) rfl ?_
      refine z_aload_n (n := 1044) dL_law_1043 rfl 3 rfl rfl ?_
      refine z_aload_n (n := 1045) dL_law_1044 rfl 1 rfl rfl ?_
      refine z_iload (n := 1047) dL_law_1045 rfl 5 rfl ?_
      refine z_iconst (n := 1048) (v := 1) dL_law_1047 rfl (by decide) ?_
      refine z_iadd (n := 1049) dL_law_1048 rfl ?_
      obtain ⟨n_447, hk_448, hF⟩ := zka_some hF
      obtain ⟨h_449, hF⟩ := zg_some hF
      refine z_ialdK (n := 1050) ((v4_21 + 1).toNatClampNeg) rfl dL_law_1049 rfl hk_448 (zin_ok h_449) ?_
      refine z_aload_n (n := 1051) dL_law_1050 rfl 1 rfl rfl ?_
      refine z_iload (n := 1053) dL_law_1051 rfl 5 rfl ?_
      refine z_iconst (n := 1054) (v := 2) dL_law_1053 rfl (by decide) ?_
      refine z_iadd (n := 1055) dL_law_1054 rfl ?_
      obtain ⟨h_450, hF⟩ := zg_some hF
      refine z_ialdK (n := 1056) ((v4_21 + 2).toNatClampNeg) rfl dL_law_1055 rfl hk_448 (zin_ok h_450) ?_
      obtain ⟨hm_451, hF⟩ := zg_some hF
      obtain ⟨n_452, hk_453, hF⟩ := zka_some hF
      obtain ⟨x_455, I_456, c_454, hF⟩ := zb2_some hF
      refine z_cV (n := 1059) (mc2 := (cc.1 + mE)) (ms2 := (cc.2 + wE)) (st := []) (C_X7_paid htr (zMok_ok hm_451) c_454) dL_law_1056 rfl (lw_V q2147 q2148 q2149 q131 q2150) hcee_X7_paid rfl (by decide) hk_453 rfl rfl rfl (Nat.le_of_ble_eq_true rfl) (Nat.le_refl _) (Nat.le_refl _) ?_
      obtain ⟨h_457, e_458, hF⟩ := zlet_ob hF
      refine z_toFI e_458 ?_
      refine z_istoreE (n := 1061) (lv' := [(6, .int x_455), (5, .int x_443), (0, .ref a0), (1, .ref o_4), (2, .ref 1860), (3, .ref o_19), (4, .int v4_21)]) dL_law_1059 rfl rfl (by decide) rfl ?_
      refine z_aload_n (n := 1062) dL_law_1061 rfl 4 rfl rfl ?_
      obtain ⟨hm_459, hF⟩ := zg_some hF
      obtain ⟨n_460, hk_461, hF⟩ := zka_some hF
      obtain ⟨x_463, c_462, hF⟩ := zb1_some hF
      refine z_cV (n := 1065) (mc2 := (cc.1 + mE)) (ms2 := (cc.2 + wE)) (st := []) (C_X7_thrown htr (zMok_ok hm_459) c_462) dL_law_1062 rfl (lw_V q1867 q1868 q1869 q131 q1870) hcee_X7_thrown rfl (by decide) hk_461 rfl rfl rfl (Nat.le_of_ble_eq_true rfl) (Nat.le_refl _) (Nat.le_refl _) ?_
      refine z_iload (n := 1067) dL_law_1065 rfl 1 rfl ?_
      refine z_icmp_eq (n := 1070) (t := 1072) dL_law_1067 rfl (by decide) (fun hc => ?_) (fun hc => ?_)
      · replace hF := (if_pos hc).symm.trans hF
        refine z_iload (n := 1074) dL_law_1072 rfl 1 rfl ?_
        refine z_if_ne (n := 1077) (t := 1089) dL_law_1074 rfl (by decide) (fun hc => ?_) (fun hc => ?_)
        · replace hF := (if_pos hc).symm.trans hF
          refine z_goto (t := 2216) dL_law_1089 (by decide) ?_
          obtain ⟨v4_464, e_465, hF⟩ := zlet_ob hF
          refine z_iincE (n := 2219) (w := 6) (v := v4_464) (lv' := [(4, .int v4_464), (6, .int x_455), (5, .int x_443), (0, .ref a0), (1, .ref o_4), (2, .ref 1860), (3, .ref o_19)]) dL_law_2216 rfl 6 rfl (by decide) e_465 (by decide) rfl ?_
          refine z_goto (t := 23) dL_law_2219 (by decide) ?_
          refine z_sub [3, 4, 5, 6, 0] rfl ?_
          obtain ⟨rfl, rfl⟩ := zpair hF
          refine z_eq (Nat.zero_add _) (Nat.zero_add _) ?_
          exact kl v4_464 h_457 rfl
        · replace hF := (if_neg hc).symm.trans hF
          refine z_aload_n (n := 1078) dL_law_1077 rfl 5 rfl rfl ?_
          refine z_iconst (n := 1079) (v := 0) dL_law_1078 rfl (by decide) ?_
          obtain ⟨n_466, hk_467, hF⟩ := zka_some hF
          obtain ⟨h_468, hF⟩ := zg_some hF
          refine z_laldK (n := 1080) 0 (by decide) dL_law_1079 rfl hk_467 (zin_ok h_468) ?_
          refine z_iload (n := 1082) dL_law_1080 rfl 0 rfl ?_
          refine z_i2l (n := 1083) dL_law_1082 rfl ?_
          refine z_lcmp (n := 1084) dL_law_1083 rfl ?_
          refine z_if_eq (n := 1087) (t := 1089) dL_law_1084 rfl (by decide) (fun hc => ?_) (fun hc => ?_)
          · replace hF := (if_pos hc).symm.trans hF
            refine z_goto (t := 2216) dL_law_1089 (by decide) ?_
            obtain ⟨v4_469, e_470, hF⟩ := zlet_ob hF
            refine z_iincE (n := 2219) (w := 6) (v := v4_469) (lv' := [(4, .int v4_469), (6, .int x_455), (5, .int x_443), (0, .ref a0), (1, .ref o_4), (2, .ref 1860), (3, .ref o_19)]) dL_law_2216 rfl 6 rfl (by decide) e_470 (by decide) rfl ?_
            refine z_goto (t := 23) dL_law_2219 (by decide) ?_
            refine z_sub [3, 4, 5, 6, 0] rfl ?_
            obtain ⟨rfl, rfl⟩ := zpair hF
            refine z_eq (Nat.zero_add _) (Nat.zero_add _) ?_
            exact kl v4_469 h_457 rfl
          · replace hF := (if_neg hc).symm.trans hF
            refine z_iconst (n := 1088) (v := 0) dL_law_1087 rfl (by decide) ?_
            obtain ⟨rfl, rfl⟩ := zpair hF
            exact z_iret dL_law_1088 rfl rfl (kq _ rfl)
      · replace hF := (if_neg hc).symm.trans hF
        refine z_iconst (n := 1071) (v := 0) dL_law_1070 rfl (by decide) ?_
        obtain ⟨rfl, rfl⟩ := zpair hF
        exact z_iret dL_law_1071 rfl rfl (kq _ rfl)
    replace hF := (if_neg ht15).symm.trans hF
    by_cases ht16 : (((hI h_22) a0 v4_21.toNatClampNeg) &&& (63 : Int32)) = 16
    · replace hF := (if_pos ht16).symm.trans hF
      refine z_tableIn (off := 1052) (t := 1092) dL_law_40 (by rw [ht16]; decide) (by rw [ht16]; decide) (by rw [ht16]; rfl) (by decide) ?_
      refine z_aload_n (n := 1093) dL_law_1092 rfl 1 rfl rfl ?_
      refine z_aload_n (n := 1094) dL_law_1093 rfl 0 rfl rfl ?_
      refine z_iload (n := 1096) dL_law_1094 rfl 4 rfl ?_
      refine z_iconst (n := 1097) (v := 1) dL_law_1096 rfl (by decide) ?_
      refine z_iadd (n := 1098) dL_law_1097 rfl ?_
      obtain ⟨h_471, hF⟩ := zg_some hF
      refine z_ialdK (n := 1099) ((v4_21 + 1).toNatClampNeg) rfl dL_law_1098 rfl hk_24 (zin_ok h_471) ?_
      refine z_aload_n (n := 1100) dL_law_1099 rfl 3 rfl rfl ?_
      obtain ⟨c_475, t_476, c_472, hF⟩ := zc1_some hF
      obtain ⟨x_473, h_474⟩ := t_476
      dsimp only [zn2] at hF
      obtain ⟨cc, hF, hcc⟩ := zpay_some hF
      refine z_payE hcc ?_
      refine z_cSH (n := 1103) (mc2 := (cc.1 + mE)) (ms2 := (cc.2 + wE)) (st := []) (C_X0_hostages htr c_472) dL_law_1100 rfl (lw_SW q1487 q1488 q104 q1489) hcee_X0_hostages rfl (by decide) rfl (Nat.le_of_ble_eq_true rfl) (Nat.le_of_eq (Nat.add_comm _ _)) (Nat.le_of_eq (Nat.add_comm _ _)) ?_
      refine z_istoreE (n := 1105) (lv' := [(5, .int x_473), (0, .ref a0), (1, .ref o_4), (2, .ref 1860), (3, .ref o_19), (4, .int v4_21)]) dL_law_1103 rfl rfl (by decide) rfl ?_
      refine z_aload_n (n := 1106) dL_law_1105 rfl 3 rfl rfl ?_
      refine z_aload_n (n := 1107) dL_law_1106 rfl 1 rfl rfl ?_
      refine z_iload (n := 1109) dL_law_1107 rfl 5 rfl ?_
      refine z_iconst (n := 1110) (v := 1) dL_law_1109 rfl (by decide) ?_
      refine z_iadd (n := 1111) dL_law_1110 rfl ?_
      obtain ⟨n_477, hk_478, hF⟩ := zka_some hF
      obtain ⟨h_479, hF⟩ := zg_some hF
      refine z_ialdK (n := 1112) ((v4_21 + 1).toNatClampNeg) rfl dL_law_1111 rfl hk_478 (zin_ok h_479) ?_
      obtain ⟨hm_480, hF⟩ := zg_some hF
      obtain ⟨n_481, hk_482, hF⟩ := zka_some hF
      obtain ⟨x_484, I_485, c_483, hF⟩ := zb2_some hF
      refine z_cV (n := 1115) (mc2 := (cc.1 + mE)) (ms2 := (cc.2 + wE)) (st := []) (C_X7_hostages htr (zMok_ok hm_480) c_483) dL_law_1112 rfl (lw_V q2151 q2152 q2153 q131 q2154) hcee_X7_hostages rfl (by decide) hk_482 rfl rfl rfl (Nat.le_of_ble_eq_true rfl) (Nat.le_refl _) (Nat.le_refl _) ?_
      obtain ⟨h_486, e_487, hF⟩ := zlet_ob hF
      refine z_toFI e_487 ?_
      refine z_istoreE (n := 1117) (lv' := [(6, .int x_484), (5, .int x_473), (0, .ref a0), (1, .ref o_4), (2, .ref 1860), (3, .ref o_19), (4, .int v4_21)]) dL_law_1115 rfl rfl (by decide) rfl ?_
      refine z_aload_n (n := 1118) dL_law_1117 rfl 4 rfl rfl ?_
      obtain ⟨hm_488, hF⟩ := zg_some hF
      obtain ⟨n_489, hk_490, hF⟩ := zka_some hF
      obtain ⟨x_492, c_491, hF⟩ := zb1_some hF
      refine z_cV (n := 1121) (mc2 := (cc.1 + mE)) (ms2 := (cc.2 + wE)) (st := []) (C_X7_thrown htr (zMok_ok hm_488) c_491) dL_law_1118 rfl (lw_V q1867 q1868 q1869 q131 q1870) hcee_X7_thrown rfl (by decide) hk_490 rfl rfl rfl (Nat.le_of_ble_eq_true rfl) (Nat.le_refl _) (Nat.le_refl _) ?_
      refine z_iload (n := 1123) dL_law_1121 rfl 1 rfl ?_
      refine z_icmp_eq (n := 1126) (t := 1128) dL_law_1123 rfl (by decide) (fun hc => ?_) (fun hc => ?_)
      · replace hF := (if_pos hc).symm.trans hF
        refine z_iload (n := 1130) dL_law_1128 rfl 1 rfl ?_
        refine z_if_ne (n := 1133) (t := 1145) dL_law_1130 rfl (by decide) (fun hc => ?_) (fun hc => ?_)
        · replace hF := (if_pos hc).symm.trans hF
          refine z_goto (t := 2216) dL_law_1145 (by decide) ?_
          obtain ⟨v4_493, e_494, hF⟩ := zlet_ob hF
          refine z_iincE (n := 2219) (w := 6) (v := v4_493) (lv' := [(4, .int v4_493), (6, .int x_484), (5, .int x_473), (0, .ref a0), (1, .ref o_4), (2, .ref 1860), (3, .ref o_19)]) dL_law_2216 rfl 6 rfl (by decide) e_494 (by decide) rfl ?_
          refine z_goto (t := 23) dL_law_2219 (by decide) ?_
          refine z_sub [3, 4, 5, 6, 0] rfl ?_
          obtain ⟨rfl, rfl⟩ := zpair hF
          refine z_eq (Nat.zero_add _) (Nat.zero_add _) ?_
          exact kl v4_493 h_486 rfl
        · replace hF := (if_neg hc).symm.trans hF
          refine z_aload_n (n := 1134) dL_law_1133 rfl 5 rfl rfl ?_
          refine z_iconst (n := 1135) (v := 0) dL_law_1134 rfl (by decide) ?_
          obtain ⟨n_495, hk_496, hF⟩ := zka_some hF
          obtain ⟨h_497, hF⟩ := zg_some hF
          refine z_laldK (n := 1136) 0 (by decide) dL_law_1135 rfl hk_496 (zin_ok h_497) ?_
          refine z_iload (n := 1138) dL_law_1136 rfl 0 rfl ?_
          refine z_i2l (n := 1139) dL_law_1138 rfl ?_
          refine z_lcmp (n := 1140) dL_law_1139 rfl ?_
          refine z_if_eq (n := 1143) (t := 1145) dL_law_1140 rfl (by decide) (fun hc => ?_) (fun hc => ?_)
          · replace hF := (if_pos hc).symm.trans hF
            refine z_goto (t := 2216) dL_law_1145 (by decide) ?_
            obtain ⟨v4_498, e_499, hF⟩ := zlet_ob hF
            refine z_iincE (n := 2219) (w := 6) (v := v4_498) (lv' := [(4, .int v4_498), (6, .int x_484), (5, .int x_473), (0, .ref a0), (1, .ref o_4), (2, .ref 1860), (3, .ref o_19)]) dL_law_2216 rfl 6 rfl (by decide) e_499 (by decide) rfl ?_
            refine z_goto (t := 23) dL_law_2219 (by decide) ?_
            refine z_sub [3, 4, 5, 6, 0] rfl ?_
            obtain ⟨rfl, rfl⟩ := zpair hF
            refine z_eq (Nat.zero_add _) (Nat.zero_add _) ?_
            exact kl v4_498 h_486 rfl
          · replace hF := (if_neg hc).symm.trans hF
            refine z_iconst (n := 1144) (v := 0) dL_law_1143 rfl (by decide) ?_
            obtain ⟨rfl, rfl⟩ := zpair hF
            exact z_iret dL_law_1144 rfl rfl (kq _ rfl)
      · replace hF := (if_neg hc).symm.trans hF
        refine z_iconst (n := 1127) (v := 0) dL_law_1126 rfl (by decide) ?_
        obtain ⟨rfl, rfl⟩ := zpair hF
        exact z_iret dL_law_1127 rfl rfl (kq _ rfl)
    replace hF := (if_neg ht16).symm.trans hF
    by_cases ht17 : (((hI h_22) a0 v4_21.toNatClampNeg) &&& (63 : Int32)) = 17
    · replace hF := (if_pos ht17).symm.trans hF
      refine z_tableIn (off := 1108) (t := 1148) dL_law_40 (by rw [ht17]; decide) (by rw [ht17]; decide) (by rw [ht17]; rfl) (by decide) ?_
      refine z_aload_n (n := 1149) dL_law_1148 rfl 1 rfl rfl ?_
      refine z_aload_n (n := 1150) dL_law_1149 rfl 0 rfl rfl ?_
      refine z_iload (n := 1152) dL_law_1150 rfl 4 rfl ?_
      refine z_iconst (n := 1153) (v := 1) dL_law_1152 rfl (by decide) ?_
      refine z_iadd (n := 1154) dL_law_1153 rfl ?_
      obtain ⟨h_500, hF⟩ := zg_some hF
      refine z_ialdK (n := 1155) ((v4_21 + 1).toNatClampNeg) rfl dL_law_1154 rfl hk_24 (zin_ok h_500) ?_
      refine z_aload_n (n := 1156) dL_law_1155 rfl 3 rfl rfl ?_
      obtain ⟨c_504, t_505, c_501, hF⟩ := zc1_some hF
      obtain ⟨x_502, h_503⟩ := t_505
      dsimp only [zn2] at hF
      obtain ⟨cc, hF, hcc⟩ := zpay_some hF
      refine z_payE hcc ?_
      refine z_cSH (n := 1159) (mc2 := (cc.1 + mE)) (ms2 := (cc.2 + wE)) (st := []) (C_X0_owing htr c_501) dL_law_1156 rfl (lw_SW q1498 q1499 q104 q1500) hcee_X0_owing rfl (by decide) rfl (Nat.le_of_ble_eq_true rfl) (Nat.le_of_eq (Nat.add_comm _ _)) (Nat.le_of_eq (Nat.add_comm _ _)) ?_
      refine z_istoreE (n := 1161) (lv' := [(5, .int x_502), (0, .ref a0), (1, .ref o_4), (2, .ref 1860), (3, .ref o_19), (4, .int v4_21)]) dL_law_1159 rfl rfl (by decide) rfl ?_
      refine z_aload_n (n := 1162) dL_law_1161 rfl 3 rfl rfl ?_
      refine z_aload_n (n := 1163) dL_law_1162 rfl 1 rfl rfl ?_
      refine z_iload (n := 1165) dL_law_1163 rfl 5 rfl ?_
      refine z_iconst (n := 1166) (v := 1) dL_law_1165 rfl (by decide) ?_
      refine z_iadd (n := 1167) dL_law_1166 rfl ?_
      obtain ⟨n_506, hk_507, hF⟩ := zka_some hF
      obtain ⟨h_508, hF⟩ := zg_some hF
      refine z_ialdK (n := 1168) ((v4_21 + 1).toNatClampNeg) rfl dL_law_1167 rfl hk_507 (zin_ok h_508) ?_
      obtain ⟨hm_509, hF⟩ := zg_some hF
      obtain ⟨n_510, hk_511, hF⟩ := zka_some hF
      obtain ⟨x_513, I_514, c_512, hF⟩ := zb2_some hF
      refine z_cV (n := 1171) (mc2 := (cc.1 + mE)) (ms2 := (cc.2 + wE)) (st := []) (C_X7_owing htr (zMok_ok hm_509) c_512) dL_law_1168 rfl (lw_V q2159 q2160 q2161 q131 q2162) hcee_X7_owing rfl (by decide) hk_511 rfl rfl rfl (Nat.le_of_ble_eq_true rfl) (Nat.le_refl _) (Nat.le_refl _) ?_
      obtain ⟨h_515, e_516, hF⟩ := zlet_ob hF
      refine z_toFI e_516 ?_
      refine z_istoreE (n := 1173) (lv' := [(6, .int x_513), (5, .int x_502), (0, .ref a0), (1, .ref o_4), (2, .ref 1860), (3, .ref o_19), (4, .int v4_21)]) dL_law_1171 rfl rfl (by decide) rfl ?_
      refine z_aload_n (n := 1174) dL_law_1173 rfl 4 rfl rfl ?_
      obtain ⟨hm_517, hF⟩ := zg_some hF
      obtain ⟨n_518, hk_519, hF⟩ := zka_some hF
      obtain ⟨x_521, c_520, hF⟩ := zb1_some hF
      refine z_cV (n := 1177) (mc2 := (cc.1 + mE)) (ms2 := (cc.2 + wE)) (st := []) (C_X7_thrown htr (zMok_ok hm_517) c_520) dL_law_1174 rfl (lw_V q1867 q1868 q1869 q131 q1870) hcee_X7_thrown rfl (by decide) hk_519 rfl rfl rfl (Nat.le_of_ble_eq_true rfl) (Nat.le_refl _) (Nat.le_refl _) ?_
      refine z_iload (n := 1179) dL_law_1177 rfl 1 rfl ?_
      refine z_icmp_eq (n := 1182) (t := 1184) dL_law_1179 rfl (by decide) (fun hc => ?_) (fun hc => ?_)
      · replace hF := (if_pos hc).symm.trans hF
        refine z_iload (n := 1186) dL_law_1184 rfl 1 rfl ?_
        refine z_if_ne (n := 1189) (t := 1201) dL_law_1186 rfl (by decide) (fun hc => ?_) (fun hc => ?_)
        · replace hF := (if_pos hc).symm.trans hF
          refine z_goto (t := 2216) dL_law_1201 (by decide) ?_
          obtain ⟨v4_522, e_523, hF⟩ := zlet_ob hF
          refine z_iincE (n := 2219) (w := 6) (v := v4_522) (lv' := [(4, .int v4_522), (6, .int x_513), (5, .int x_502), (0, .ref a0), (1, .ref o_4), (2, .ref 1860), (3, .ref o_19)]) dL_law_2216 rfl 6 rfl (by decide) e_523 (by decide) rfl ?_
          refine z_goto (t := 23) dL_law_2219 (by decide) ?_
          refine z_sub [3, 4, 5, 6, 0] rfl ?_
          obtain ⟨rfl, rfl⟩ := zpair hF
          refine z_eq (Nat.zero_add _) (Nat.zero_add _) ?_
          exact kl v4_522 h_515 rfl
        · replace hF := (if_neg hc).symm.trans hF
          refine z_aload_n (n := 1190) dL_law_1189 rfl 5 rfl rfl ?_
          refine z_iconst (n := 1191) (v := 0) dL_law_1190 rfl (by decide) ?_
          obtain ⟨n_524, hk_525, hF⟩ := zka_some hF
          obtain ⟨h_526, hF⟩ := zg_some hF
          refine z_laldK (n := 1192) 0 (by decide) dL_law_1191 rfl hk_525 (zin_ok h_526) ?_
          refine z_iload (n := 1194) dL_law_1192 rfl 0 rfl ?_
          refine z_i2l (n := 1195) dL_law_1194 rfl ?_
          refine z_lcmp (n := 1196) dL_law_1195 rfl ?_
          refine z_if_eq (n := 1199) (t := 1201) dL_law_1196 rfl (by decide) (fun hc => ?_) (fun hc => ?_)
          · replace hF := (if_pos hc).symm.trans hF
            refine z_goto (t := 2216) dL_law_1201 (by decide) ?_
            obtain ⟨v4_527, e_528, hF⟩ := zlet_ob hF
            refine z_iincE (n := 2219) (w := 6) (v := v4_527) (lv' := [(4, .int v4_527), (6, .int x_513), (5, .int x_502), (0, .ref a0), (1, .ref o_4), (2, .ref 1860), (3, .ref o_19)]) dL_law_2216 rfl 6 rfl (by decide) e_528 (by decide) rfl ?_
            refine z_goto (t := 23) dL_law_2219 (by decide) ?_
            refine z_sub [3, 4, 5, 6, 0] rfl ?_
            obtain ⟨rfl, rfl⟩ := zpair hF
            refine z_eq (Nat.zero_add _) (Nat.zero_add _) ?_
            exact kl v4_527 h_515 rfl
          · replace hF := (if_neg hc).symm.trans hF
            refine z_iconst (n := 1200) (v := 0) dL_law_1199 rfl (by decide) ?_
            obtain ⟨rfl, rfl⟩ := zpair hF
            exact z_iret dL_law_1200 rfl rfl (kq _ rfl)
      · replace hF := (if_neg hc).symm.trans hF
        refine z_iconst (n := 1183) (v := 0) dL_law_1182 rfl (by decide) ?_
        obtain ⟨rfl, rfl⟩ := zpair hF
        exact z_iret dL_law_1183 rfl rfl (kq _ rfl)
    replace hF := (if_neg ht17).symm.trans hF
    by_cases ht18 : (((hI h_22) a0 v4_21.toNatClampNeg) &&& (63 : Int32)) = 18
    · replace hF := (if_pos ht18).symm.trans hF
      refine z_tableIn (off := 1164) (t := 1204) dL_law_40 (by rw [ht18]; decide) (by rw [ht18]; decide) (by rw [ht18]; rfl) (by decide) ?_
      refine z_aload_n (n := 1205) dL_law_1204 rfl 1 rfl rfl ?_
      obtain ⟨n_529, hk_530, hF⟩ := zka_some hF
      obtain ⟨x_532, c_531, hF⟩ := zb1_some hF
      refine z_cV (n := 1208) (mc2 := (cc.1 + mE)) (ms2 := (cc.2 + wE)) (st := []) (C_X1_blackest htr c_531) dL_law_1205 rfl (lw_V q919 q920 q921 q105 q922) hcee_X1_blackest rfl (by decide) hk_530 rfl rfl rfl (Nat.le_of_ble_eq_true rfl) (Nat.le_refl _) (Nat.le_refl _) ?_
      refine z_aload_n (n := 1209) dL_law_1208 rfl 2 rfl rfl ?_
      obtain ⟨hm_533, hF⟩ := zg_some hF
      obtain ⟨n_534, hk_535, hF⟩ := zka_some hF
      obtain ⟨x_537, I_538, c_536, hF⟩ := zb2_some hF
      refine z_cV (n := 1212) (mc2 := (cc.1 + mE)) (ms2 := (cc.2 + wE)) (st := [.int x_532]) (C_X7_blackest htr (zMok_ok hm_533) c_536) dL_law_1209 rfl (lw_V q2163 q2164 q2165 q131 q2166) hcee_X7_blackest rfl (by decide) hk_535 rfl rfl rfl (Nat.le_of_ble_eq_true rfl) (Nat.le_refl _) (Nat.le_refl _) ?_
      obtain ⟨h_539, e_540, hF⟩ := zlet_ob hF
      refine z_toFI e_540 ?_
      refine z_icmp_eq (n := 1215) (t := 2216) dL_law_1212 rfl (by decide) (fun hc => ?_) (fun hc => ?_)
      · replace hF := (if_pos hc).symm.trans hF
        obtain ⟨v4_541, e_542, hF⟩ := zlet_ob hF
        refine z_iincE (n := 2219) (w := 6) (v := v4_541) (lv' := [(4, .int v4_541), (0, .ref a0), (1, .ref o_4), (2, .ref 1860), (3, .ref o_19)]) dL_law_2216 rfl 4 rfl (by decide) e_542 (by decide) rfl ?_
        refine z_goto (t := 23) dL_law_2219 (by decide) ?_
        refine z_sub [1, 2, 3, 4, 0] rfl ?_
        obtain ⟨rfl, rfl⟩ := zpair hF
        refine z_eq (Nat.zero_add _) (Nat.zero_add _) ?_
        exact kl v4_541 h_539 rfl
      · replace hF := (if_neg hc).symm.trans hF
        refine z_iconst (n := 1216) (v := 0) dL_law_1215 rfl (by decide) ?_
        obtain ⟨rfl, rfl⟩ := zpair hF
        exact z_iret dL_law_1216 rfl rfl (kq _ rfl)
    replace hF := (if_neg ht18).symm.trans hF
    by_cases ht19 : (((hI h_22) a0 v4_21.toNatClampNeg) &&& (63 : Int32)) = 19
    · replace hF := (if_pos ht19).symm.trans hF
      refine z_tableIn (off := 1177) (t := 1217) dL_law_40 (by rw [ht19]; decide) (by rw [ht19]; decide) (by rw [ht19]; rfl) (by decide) ?_
      refine z_aload_n (n := 1218) dL_law_1217 rfl 1 rfl rfl ?_
      refine z_aload_n (n := 1219) dL_law_1218 rfl 0 rfl rfl ?_
      refine z_iload (n := 1221) dL_law_1219 rfl 4 rfl ?_
      refine z_iconst (n := 1222) (v := 1) dL_law_1221 rfl (by decide) ?_
      refine z_iadd (n := 1223) dL_law_1222 rfl ?_
      obtain ⟨h_543, hF⟩ := zg_some hF
      refine z_ialdK (n := 1224) ((v4_21 + 1).toNatClampNeg) rfl dL_law_1223 rfl hk_24 (zin_ok h_543) ?_
      refine z_aload_n (n := 1225) dL_law_1224 rfl 3 rfl rfl ?_
      obtain ⟨c_547, t_548, c_544, hF⟩ := zc1_some hF
      obtain ⟨x_545, h_546⟩ := t_548
      dsimp only [zn2] at hF
      obtain ⟨cc, hF, hcc⟩ := zpay_some hF
      refine z_payE hcc ?_
      refine z_cSH (n := 1228) (mc2 := (cc.1 + mE)) (ms2 := (cc.2 + wE)) (st := []) (C_X0_lastBlack htr c_544) dL_law_1225 rfl (lw_SW q1505 q1506 q104 q1507) hcee_X0_lastBlack rfl (by decide) rfl (Nat.le_of_ble_eq_true rfl) (Nat.le_of_eq (Nat.add_comm _ _)) (Nat.le_of_eq (Nat.add_comm _ _)) ?_
      refine z_istoreE (n := 1230) (lv' := [(5, .int x_545), (0, .ref a0), (1, .ref o_4), (2, .ref 1860), (3, .ref o_19), (4, .int v4_21)]) dL_law_1228 rfl rfl (by decide) rfl ?_
      refine z_aload_n (n := 1231) dL_law_1230 rfl 3 rfl rfl ?_
      refine z_aload_n (n := 1232) dL_law_1231 rfl 1 rfl rfl ?_
      refine z_iload (n := 1234) dL_law_1232 rfl 5 rfl ?_
      refine z_iconst (n := 1235) (v := 1) dL_law_1234 rfl (by decide) ?_
      refine z_iadd (n := 1236) dL_law_1235 rfl ?_
      obtain ⟨n_549, hk_550, hF⟩ := zka_some hF
      obtain ⟨h_551, hF⟩ := zg_some hF
      refine z_ialdK (n := 1237) ((v4_21 + 1).toNatClampNeg) rfl dL_law_1236 rfl hk_550 (zin_ok h_551) ?_
      obtain ⟨hm_552, hF⟩ := zg_some hF
      obtain ⟨n_553, hk_554, hF⟩ := zka_some hF
      obtain ⟨x_556, I_557, c_555, hF⟩ := zb2_some hF
      refine z_cV (n := 1240) (mc2 := (cc.1 + mE)) (ms2 := (cc.2 + wE)) (st := []) (C_X7_lastBlack htr (zMok_ok hm_552) c_555) dL_law_1237 rfl (lw_V q2167 q2168 q2169 q131 q2170) hcee_X7_lastBlack rfl (by decide) hk_554 rfl rfl rfl (Nat.le_of_ble_eq_true rfl) (Nat.le_refl _) (Nat.le_refl _) ?_
      obtain ⟨h_558, e_559, hF⟩ := zlet_ob hF
      refine z_toFI e_559 ?_
      refine z_istoreE (n := 1242) (lv' := [(6, .int x_556), (5, .int x_545), (0, .ref a0), (1, .ref o_4), (2, .ref 1860), (3, .ref o_19), (4, .int v4_21)]) dL_law_1240 rfl rfl (by decide) rfl ?_
      refine z_aload_n (n := 1243) dL_law_1242 rfl 4 rfl rfl ?_
      obtain ⟨hm_560, hF⟩ := zg_some hF
      obtain ⟨n_561, hk_562, hF⟩ := zka_some hF
      obtain ⟨x_564, c_563, hF⟩ := zb1_some hF
      refine z_cV (n := 1246) (mc2 := (cc.1 + mE)) (ms2 := (cc.2 + wE)) (st := []) (C_X7_thrown htr (zMok_ok hm_560) c_563) dL_law_1243 rfl (lw_V q1867 q1868 q1869 q131 q1870) hcee_X7_thrown rfl (by decide) hk_562 rfl rfl rfl (Nat.le_of_ble_eq_true rfl) (Nat.le_refl _) (Nat.le_refl _) ?_
      refine z_iload (n := 1248) dL_law_1246 rfl 1 rfl ?_
      refine z_icmp_eq (n := 1251) (t := 1253) dL_law_1248 rfl (by decide) (fun hc => ?_) (fun hc => ?_)
      · replace hF := (if_pos hc).symm.trans hF
        refine z_iload (n := 1255) dL_law_1253 rfl 1 rfl ?_
        refine z_if_ne (n := 1258) (t := 1270) dL_law_1255 rfl (by decide) (fun hc => ?_) (fun hc => ?_)
        · replace hF := (if_pos hc).symm.trans hF
          refine z_goto (t := 2216) dL_law_1270 (by decide) ?_
          obtain ⟨v4_565, e_566, hF⟩ := zlet_ob hF
          refine z_iincE (n := 2219) (w := 6) (v := v4_565) (lv' := [(4, .int v4_565), (6, .int x_556), (5, .int x_545), (0, .ref a0), (1, .ref o_4), (2, .ref 1860), (3, .ref o_19)]) dL_law_2216 rfl 6 rfl (by decide) e_566 (by decide) rfl ?_
          refine z_goto (t := 23) dL_law_2219 (by decide) ?_
          refine z_sub [3, 4, 5, 6, 0] rfl ?_
          obtain ⟨rfl, rfl⟩ := zpair hF
          refine z_eq (Nat.zero_add _) (Nat.zero_add _) ?_
          exact kl v4_565 h_558 rfl
        · replace hF := (if_neg hc).symm.trans hF
          refine z_aload_n (n := 1259) dL_law_1258 rfl 5 rfl rfl ?_
          refine z_iconst (n := 1260) (v := 0) dL_law_1259 rfl (by decide) ?_
          obtain ⟨n_567, hk_568, hF⟩ := zka_some hF
          obtain ⟨h_569, hF⟩ := zg_some hF
          refine z_laldK (n := 1261) 0 (by decide) dL_law_1260 rfl hk_568 (zin_ok h_569) ?_
          refine z_iload (n := 1263) dL_law_1261 rfl 0 rfl ?_
          refine z_i2l (n := 1264) dL_law_1263 rfl ?_
          refine z_lcmp (n := 1265) dL_law_1264 rfl ?_
          refine z_if_eq (n := 1268) (t := 1270) dL_law_1265 rfl (by decide) (fun hc => ?_) (fun hc => ?_)
          · replace hF := (if_pos hc).symm.trans hF
            refine z_goto (t := 2216) dL_law_1270 (by decide) ?_
            obtain ⟨v4_570, e_571, hF⟩ := zlet_ob hF
            refine z_iincE (n := 2219) (w := 6) (v := v4_570) (lv' := [(4, .int v4_570), (6, .int x_556), (5, .int x_545), (0, .ref a0), (1, .ref o_4), (2, .ref 1860), (3, .ref o_19)]) dL_law_2216 rfl 6 rfl (by decide) e_571 (by decide) rfl ?_
            refine z_goto (t := 23) dL_law_2219 (by decide) ?_
            refine z_sub [3, 4, 5, 6, 0] rfl ?_
            obtain ⟨rfl, rfl⟩ := zpair hF
            refine z_eq (Nat.zero_add _) (Nat.zero_add _) ?_
            exact kl v4_570 h_558 rfl
          · replace hF := (if_neg hc).symm.trans hF
            refine z_iconst (n := 1269) (v := 0) dL_law_1268 rfl (by decide) ?_
            obtain ⟨rfl, rfl⟩ := zpair hF
            exact z_iret dL_law_1269 rfl rfl (kq _ rfl)
      · replace hF := (if_neg hc).symm.trans hF
        refine z_iconst (n := 1252) (v := 0) dL_law_1251 rfl (by decide) ?_
        obtain ⟨rfl, rfl⟩ := zpair hF
        exact z_iret dL_law_1252 rfl rfl (kq _ rfl)
    replace hF := (if_neg ht19).symm.trans hF
    by_cases ht20 : (((hI h_22) a0 v4_21.toNatClampNeg) &&& (63 : Int32)) = 20
    · replace hF := (if_pos ht20).symm.trans hF
      refine z_tableIn (off := 1233) (t := 1273) dL_law_40 (by rw [ht20]; decide) (by rw [ht20]; decide) (by rw [ht20]; rfl) (by decide) ?_
      refine z_aload_n (n := 1274) dL_law_1273 rfl 1 rfl rfl ?_
      refine z_aload_n (n := 1275) dL_law_1274 rfl 0 rfl rfl ?_
      refine z_iload (n := 1277) dL_law_1275 rfl 4 rfl ?_
      refine z_iconst (n := 1278) (v := 1) dL_law_1277 rfl (by decide) ?_
      refine z_iadd (n := 1279) dL_law_1278 rfl ?_
      obtain ⟨h_572, hF⟩ := zg_some hF
      refine z_ialdK (n := 1280) ((v4_21 + 1).toNatClampNeg) rfl dL_law_1279 rfl hk_24 (zin_ok h_572) ?_
      refine z_aload_n (n := 1281) dL_law_1280 rfl 3 rfl rfl ?_
      obtain ⟨c_576, t_577, c_573, hF⟩ := zc1_some hF
      obtain ⟨x_574, h_575⟩ := t_577
      dsimp only [zn2] at hF
      obtain ⟨cc, hF, hcc⟩ := zpay_some hF
      refine z_payE hcc ?_
      refine z_cSH (n := 1284) (mc2 := (cc.1 + mE)) (ms2 := (cc.2 + wE)) (st := []) (C_X0_forEver htr c_573) dL_law_1281 rfl (lw_SW q1512 q1513 q104 q1514) hcee_X0_forEver rfl (by decide) rfl (Nat.le_of_ble_eq_true rfl) (Nat.le_of_eq (Nat.add_comm _ _)) (Nat.le_of_eq (Nat.add_comm _ _)) ?_
      refine z_istoreE (n := 1286) (lv' := [(5, .int x_574), (0, .ref a0), (1, .ref o_4), (2, .ref 1860), (3, .ref o_19), (4, .int v4_21)]) dL_law_1284 rfl rfl (by decide) rfl ?_
      refine z_aload_n (n := 1287) dL_law_1286 rfl 3 rfl rfl ?_
      refine z_aload_n (n := 1288) dL_law_1287 rfl 1 rfl rfl ?_
      refine z_iload (n := 1290) dL_law_1288 rfl 5 rfl ?_
      refine z_iconst (n := 1291) (v := 1) dL_law_1290 rfl (by decide) ?_
      refine z_iadd (n := 1292) dL_law_1291 rfl ?_
      obtain ⟨n_578, hk_579, hF⟩ := zka_some hF
      obtain ⟨h_580, hF⟩ := zg_some hF
      refine z_ialdK (n := 1293) ((v4_21 + 1).toNatClampNeg) rfl dL_law_1292 rfl hk_579 (zin_ok h_580) ?_
      obtain ⟨hm_581, hF⟩ := zg_some hF
      obtain ⟨n_582, hk_583, hF⟩ := zka_some hF
      obtain ⟨x_585, I_586, c_584, hF⟩ := zb2_some hF
      refine z_cV (n := 1296) (mc2 := (cc.1 + mE)) (ms2 := (cc.2 + wE)) (st := []) (C_X7_forEver htr (zMok_ok hm_581) c_584) dL_law_1293 rfl (lw_V q2171 q2172 q2173 q131 q2174) hcee_X7_forEver rfl (by decide) hk_583 rfl rfl rfl (Nat.le_of_ble_eq_true rfl) (Nat.le_refl _) (Nat.le_refl _) ?_
      obtain ⟨h_587, e_588, hF⟩ := zlet_ob hF
      refine z_toFI e_588 ?_
      refine z_istoreE (n := 1298) (lv' := [(6, .int x_585), (5, .int x_574), (0, .ref a0), (1, .ref o_4), (2, .ref 1860), (3, .ref o_19), (4, .int v4_21)]) dL_law_1296 rfl rfl (by decide) rfl ?_
      refine z_aload_n (n := 1299) dL_law_1298 rfl 4 rfl rfl ?_
      obtain ⟨hm_589, hF⟩ := zg_some hF
      obtain ⟨n_590, hk_591, hF⟩ := zka_some hF
      obtain ⟨x_593, c_592, hF⟩ := zb1_some hF
      refine z_cV (n := 1302) (mc2 := (cc.1 + mE)) (ms2 := (cc.2 + wE)) (st := []) (C_X7_thrown htr (zMok_ok hm_589) c_592) dL_law_1299 rfl (lw_V q1867 q1868 q1869 q131 q1870) hcee_X7_thrown rfl (by decide) hk_591 rfl rfl rfl (Nat.le_of_ble_eq_true rfl) (Nat.le_refl _) (Nat.le_refl _) ?_
      refine z_iload (n := 1304) dL_law_1302 rfl 1 rfl ?_
      refine z_icmp_eq (n := 1307) (t := 1309) dL_law_1304 rfl (by decide) (fun hc => ?_) (fun hc => ?_)
      · replace hF := (if_pos hc).symm.trans hF
        refine z_iload (n := 1311) dL_law_1309 rfl 1 rfl ?_
        refine z_if_ne (n := 1314) (t := 1326) dL_law_1311 rfl (by decide) (fun hc => ?_) (fun hc => ?_)
        · replace hF := (if_pos hc).symm.trans hF
          refine z_goto (t := 2216) dL_law_1326 (by decide) ?_
          obtain ⟨v4_594, e_595, hF⟩ := zlet_ob hF
          refine z_iincE (n := 2219) (w := 6) (v := v4_594) (lv' := [(4, .int v4_594), (6, .int x_585), (5, .int x_574), (0, .ref a0), (1, .ref o_4), (2, .ref 1860), (3, .ref o_19)]) dL_law_2216 rfl 6 rfl (by decide) e_595 (by decide) rfl ?_
          refine z_goto (t := 23) dL_law_2219 (by decide) ?_
          refine z_sub [3, 4, 5, 6, 0] rfl ?_
          obtain ⟨rfl, rfl⟩ := zpair hF
          refine z_eq (Nat.zero_add _) (Nat.zero_add _) ?_
          exact kl v4_594 h_587 rfl
        · replace hF := (if_neg hc).symm.trans hF
          refine z_aload_n (n := 1315) dL_law_1314 rfl 5 rfl rfl ?_
          refine z_iconst (n := 1316) (v := 0) dL_law_1315 rfl (by decide) ?_
          obtain ⟨n_596, hk_597, hF⟩ := zka_some hF
          obtain ⟨h_598, hF⟩ := zg_some hF
          refine z_laldK (n := 1317) 0 (by decide) dL_law_1316 rfl hk_597 (zin_ok h_598) ?_
          refine z_iload (n := 1319) dL_law_1317 rfl 0 rfl ?_
          refine z_i2l (n := 1320) dL_law_1319 rfl ?_
          refine z_lcmp (n := 1321) dL_law_1320 rfl ?_
          refine z_if_eq (n := 1324) (t := 1326) dL_law_1321 rfl (by decide) (fun hc => ?_) (fun hc => ?_)
          · replace hF := (if_pos hc).symm.trans hF
            refine z_goto (t := 2216) dL_law_1326 (by decide) ?_
            obtain ⟨v4_599, e_600, hF⟩ := zlet_ob hF
            refine z_iincE (n := 2219) (w := 6) (v := v4_599) (lv' := [(4, .int v4_599), (6, .int x_585), (5, .int x_574), (0, .ref a0), (1, .ref o_4), (2, .ref 1860), (3, .ref o_19)]) dL_law_2216 rfl 6 rfl (by decide) e_600 (by decide) rfl ?_
            refine z_goto (t := 23) dL_law_2219 (by decide) ?_
            refine z_sub [3, 4, 5, 6, 0] rfl ?_
            obtain ⟨rfl, rfl⟩ := zpair hF
            refine z_eq (Nat.zero_add _) (Nat.zero_add _) ?_
            exact kl v4_599 h_587 rfl
          · replace hF := (if_neg hc).symm.trans hF
            refine z_iconst (n := 1325) (v := 0) dL_law_1324 rfl (by decide) ?_
            obtain ⟨rfl, rfl⟩ := zpair hF
            exact z_iret dL_law_1325 rfl rfl (kq _ rfl)
      · replace hF := (if_neg hc).symm.trans hF
        refine z_iconst (n := 1308) (v := 0) dL_law_1307 rfl (by decide) ?_
        obtain ⟨rfl, rfl⟩ := zpair hF
        exact z_iret dL_law_1308 rfl rfl (kq _ rfl)
    replace hF := (if_neg ht20).symm.trans hF
    by_cases ht21 : (((hI h_22) a0 v4_21.toNatClampNeg) &&& (63 : Int32)) = 21
    · replace hF := (if_pos ht21).symm.trans hF
      refine z_tableIn (off := 1289) (t := 1329) dL_law_40 (by rw [ht21]; decide) (by rw [ht21]; decide) (by rw [ht21]; rfl) (by decide) ?_
      refine z_aload_n (n := 1330) dL_law_1329 rfl 1 rfl rfl ?_
      refine z_aload_n (n := 1331) dL_law_1330 rfl 0 rfl rfl ?_
      refine z_iload (n := 1333) dL_law_1331 rfl 4 rfl ?_
      refine z_iconst (n := 1334) (v := 1) dL_law_1333 rfl (by decide) ?_
      refine z_iadd (n := 1335) dL_law_1334 rfl ?_
      obtain ⟨h_601, hF⟩ := zg_some hF
      refine z_ialdK (n := 1336) ((v4_21 + 1).toNatClampNeg) rfl dL_law_1335 rfl hk_24 (zin_ok h_601) ?_
      refine z_aload_n (n := 1337) dL_law_1336 rfl 0 rfl rfl ?_
      refine z_iload (n := 1339) dL_law_1337 rfl 4 rfl ?_
      refine z_iconst (n := 1340) (v := 2) dL_law_1339 rfl (by decide) ?_
      refine z_iadd (n := 1341) dL_law_1340 rfl ?_
      obtain ⟨h_602, hF⟩ := zg_some hF
      refine z_ialdK (n := 1342) ((v4_21 + 2).toNatClampNeg) rfl dL_law_1341 rfl hk_24 (zin_ok h_602) ?_
      refine z_aload_n (n := 1343) dL_law_1342 rfl 3 rfl rfl ?_
      obtain ⟨c_606, t_607, c_603, hF⟩ := zc1_some hF
      obtain ⟨x_604, h_605⟩ := t_607
      dsimp only [zn2] at hF
      obtain ⟨cc, hF, hcc⟩ := zpay_some hF
      refine z_payE hcc ?_
      refine z_cSH (n := 1346) (mc2 := (cc.1 + mE)) (ms2 := (cc.2 + wE)) (st := []) (C_X0_resting htr c_603) dL_law_1343 rfl (lw_SW q1524 q1525 q104 q1526) hcee_X0_resting rfl (by decide) rfl (Nat.le_of_ble_eq_true rfl) (Nat.le_of_eq (Nat.add_comm _ _)) (Nat.le_of_eq (Nat.add_comm _ _)) ?_
      refine z_istoreE (n := 1348) (lv' := [(5, .int x_604), (0, .ref a0), (1, .ref o_4), (2, .ref 1860), (3, .ref o_19), (4, .int v4_21)]) dL_law_1346 rfl rfl (by decide) rfl ?_
      refine z_aload_n (n := 1349) dL_law_1348 rfl 3 rfl rfl ?_
      refine z_aload_n (n := 1350) dL_law_1349 rfl 1 rfl rfl ?_
      refine z_iload (n := 1352) dL_law_1350 rfl 5 rfl ?_
      refine z_iconst (n := 1353) (v := 1) dL_law_1352 rfl (by decide) ?_
      refine z_iadd (n := 1354) dL_law_1353 rfl ?_
      obtain ⟨n_608, hk_609, hF⟩ := zka_some hF
      obtain ⟨h_610, hF⟩ := zg_some hF
      refine z_ialdK (n := 1355) ((v4_21 + 1).toNatClampNeg) rfl dL_law_1354 rfl hk_609 (zin_ok h_610) ?_
      refine z_aload_n (n := 1356) dL_law_1355 rfl 1 rfl rfl ?_
      refine z_iload (n := 1358) dL_law_1356 rfl 5 rfl ?_
      refine z_iconst (n := 1359) (v := 2) dL_law_1358 rfl (by decide) ?_
      refine z_iadd (n := 1360) dL_law_1359 rfl ?_
      obtain ⟨h_611, hF⟩ := zg_some hF
      refine z_ialdK (n := 1361) ((v4_21 + 2).toNatClampNeg) rfl dL_law_1360 rfl hk_609 (zin_ok h_611) ?_
      obtain ⟨hm_612, hF⟩ := zg_some hF
      obtain ⟨n_613, hk_614, hF⟩ := zka_some hF
      obtain ⟨x_616, I_617, c_615, hF⟩ := zb2_some hF
      refine z_cV (n := 1364) (mc2 := (cc.1 + mE)) (ms2 := (cc.2 + wE)) (st := []) (C_X7_resting htr (zMok_ok hm_612) c_615) dL_law_1361 rfl (lw_V q2179 q2180 q2181 q131 q2182) hcee_X7_resting rfl (by decide) hk_614 rfl rfl rfl (Nat.le_of_ble_eq_true rfl) (Nat.le_refl _) (Nat.le_refl _) ?_
      obtain ⟨h_618, e_619, hF⟩ := zlet_ob hF
      refine z_toFI e_619 ?_
      refine z_istoreE (n := 1366) (lv' := [(6, .int x_616), (5, .int x_604), (0, .ref a0), (1, .ref o_4), (2, .ref 1860), (3, .ref o_19), (4, .int v4_21)]) dL_law_1364 rfl rfl (by decide) rfl ?_
      refine z_aload_n (n := 1367) dL_law_1366 rfl 4 rfl rfl ?_
      obtain ⟨hm_620, hF⟩ := zg_some hF
      obtain ⟨n_621, hk_622, hF⟩ := zka_some hF
      obtain ⟨x_624, c_623, hF⟩ := zb1_some hF
      refine z_cV (n := 1370) (mc2 := (cc.1 + mE)) (ms2 := (cc.2 + wE)) (st := []) (C_X7_thrown htr (zMok_ok hm_620) c_623) dL_law_1367 rfl (lw_V q1867 q1868 q1869 q131 q1870) hcee_X7_thrown rfl (by decide) hk_622 rfl rfl rfl (Nat.le_of_ble_eq_true rfl) (Nat.le_refl _) (Nat.le_refl _) ?_
      refine z_iload (n := 1372) dL_law_1370 rfl 1 rfl ?_
      refine z_icmp_eq (n := 1375) (t := 1377) dL_law_1372 rfl (by decide) (fun hc => ?_) (fun hc => ?_)
      · replace hF := (if_pos hc).symm.trans hF
        refine z_iload (n := 1379) dL_law_1377 rfl 1 rfl ?_
        refine z_if_ne (n := 1382) (t := 1394) dL_law_1379 rfl (by decide) (fun hc => ?_) (fun hc => ?_)
        · replace hF := (if_pos hc).symm.trans hF
          refine z_goto (t := 2216) dL_law_1394 (by decide) ?_
          obtain ⟨v4_625, e_626, hF⟩ := zlet_ob hF
          refine z_iincE (n := 2219) (w := 6) (v := v4_625) (lv' := [(4, .int v4_625), (6, .int x_616), (5, .int x_604), (0, .ref a0), (1, .ref o_4), (2, .ref 1860), (3, .ref o_19)]) dL_law_2216 rfl 6 rfl (by decide) e_626 (by decide) rfl ?_
          refine z_goto (t := 23) dL_law_2219 (by decide) ?_
          refine z_sub [3, 4, 5, 6, 0] rfl ?_
          obtain ⟨rfl, rfl⟩ := zpair hF
          refine z_eq (Nat.zero_add _) (Nat.zero_add _) ?_
          exact kl v4_625 h_618 rfl
        · replace hF := (if_neg hc).symm.trans hF
          refine z_aload_n (n := 1383) dL_law_1382 rfl 5 rfl rfl ?_
          refine z_iconst (n := 1384) (v := 0) dL_law_1383 rfl (by decide) ?_
          obtain ⟨n_627, hk_628, hF⟩ := zka_some hF
          obtain ⟨h_629, hF⟩ := zg_some hF
          refine z_laldK (n := 1385) 0 (by decide) dL_law_1384 rfl hk_628 (zin_ok h_629) ?_
          refine z_iload (n := 1387) dL_law_1385 rfl 0 rfl ?_
          refine z_i2l (n := 1388) dL_law_1387 rfl ?_
          refine z_lcmp (n := 1389) dL_law_1388 rfl ?_
          refine z_if_eq (n := 1392) (t := 1394) dL_law_1389 rfl (by decide) (fun hc => ?_) (fun hc => ?_)
          · replace hF := (if_pos hc).symm.trans hF
            refine z_goto (t := 2216) dL_law_1394 (by decide) ?_
            obtain ⟨v4_630, e_631, hF⟩ := zlet_ob hF
            refine z_iincE (n := 2219) (w := 6) (v := v4_630) (lv' := [(4, .int v4_630), (6, .int x_616), (5, .int x_604), (0, .ref a0), (1, .ref o_4), (2, .ref 1860), (3, .ref o_19)]) dL_law_2216 rfl 6 rfl (by decide) e_631 (by decide) rfl ?_
            refine z_goto (t := 23) dL_law_2219 (by decide) ?_
            refine z_sub [3, 4, 5, 6, 0] rfl ?_
            obtain ⟨rfl, rfl⟩ := zpair hF
            refine z_eq (Nat.zero_add _) (Nat.zero_add _) ?_
            exact kl v4_630 h_618 rfl
          · replace hF := (if_neg hc).symm.trans hF
            refine z_iconst (n := 1393) (v := 0) dL_law_1392 rfl (by decide) ?_
            obtain ⟨rfl, rfl⟩ := zpair hF
            exact z_iret dL_law_1393 rfl rfl (kq _ rfl)
      · replace hF := (if_neg hc).symm.trans hF
        refine z_iconst (n := 1376) (v := 0) dL_law_1375 rfl (by decide) ?_
        obtain ⟨rfl, rfl⟩ := zpair hF
        exact z_iret dL_law_1376 rfl rfl (kq _ rfl)
    replace hF := (if_neg ht21).symm.trans hF
    by_cases ht22 : (((hI h_22) a0 v4_21.toNatClampNeg) &&& (63 : Int32)) = 22
    · replace hF := (if_pos ht22).symm.trans hF
      refine z_tableIn (off := 1357) (t := 1397) dL_law_40 (by rw [ht22]; decide) (by rw [ht22]; decide) (by rw [ht22]; rfl) (by decide) ?_
      refine z_aload_n (n := 1398) dL_law_1397 rfl 1 rfl rfl ?_
      refine z_aload_n (n := 1399) dL_law_1398 rfl 0 rfl rfl ?_
      refine z_iload (n := 1401) dL_law_1399 rfl 4 rfl ?_
      refine z_iconst (n := 1402) (v := 1) dL_law_1401 rfl (by decide) ?_
      refine z_iadd (n := 1403) dL_law_1402 rfl ?_
      obtain ⟨h_632, hF⟩ := zg_some hF
      refine z_ialdK (n := 1404) ((v4_21 + 1).toNatClampNeg) rfl dL_law_1403 rfl hk_24 (zin_ok h_632) ?_
      refine z_aload_n (n := 1405) dL_law_1404 rfl 0 rfl rfl ?_
      refine z_iload (n := 1407) dL_law_1405 rfl 4 rfl ?_
      refine z_iconst (n := 1408) (v := 2) dL_law_1407 rfl (by decide) ?_
      refine z_iadd (n := 1409) dL_law_1408 rfl ?_
      obtain ⟨h_633, hF⟩ := zg_some hF
      refine z_ialdK (n := 1410) ((v4_21 + 2).toNatClampNeg) rfl dL_law_1409 rfl hk_24 (zin_ok h_633) ?_
      refine z_aload_n (n := 1411) dL_law_1410 rfl 3 rfl rfl ?_
      obtain ⟨c_637, t_638, c_634, hF⟩ := zc1_some hF
      obtain ⟨x_635, h_636⟩ := t_638
      dsimp only [zn2] at hF
      obtain ⟨cc, hF, hcc⟩ := zpay_some hF
      refine z_payE hcc ?_
      refine z_cSH (n := 1414) (mc2 := (cc.1 + mE)) (ms2 := (cc.2 + wE)) (st := []) (C_X0_far htr c_634) dL_law_1411 rfl (lw_SW q1531 q1532 q104 q1533) hcee_X0_far rfl (by decide) rfl (Nat.le_of_ble_eq_true rfl) (Nat.le_of_eq (Nat.add_comm _ _)) (Nat.le_of_eq (Nat.add_comm _ _)) ?_
      refine z_istoreE (n := 1416) (lv' := [(5, .int x_635), (0, .ref a0), (1, .ref o_4), (2, .ref 1860), (3, .ref o_19), (4, .int v4_21)]) dL_law_1414 rfl rfl (by decide) rfl ?_
      refine z_aload_n (n := 1417) dL_law_1416 rfl 3 rfl rfl ?_
      refine z_aload_n (n := 1418) dL_law_1417 rfl 1 rfl rfl ?_
      refine z_iload (n := 1420) dL_law_1418 rfl 5 rfl ?_
      refine z_iconst (n := 1421) (v := 1) dL_law_1420 rfl (by decide) ?_
      refine z_iadd (n := 1422) dL_law_1421 rfl ?_
      obtain ⟨n_639, hk_640, hF⟩ := zka_some hF
      obtain ⟨h_641, hF⟩ := zg_some hF
      refine z_ialdK (n := 1423) ((v4_21 + 1).toNatClampNeg) rfl dL_law_1422 rfl hk_640 (zin_ok h_641) ?_
      refine z_aload_n (n := 1424) dL_law_1423 rfl 1 rfl rfl ?_
      refine z_iload (n := 1426) dL_law_1424 rfl 5 rfl ?_
      refine z_iconst (n := 1427) (v := 2) dL_law_1426 rfl (by decide) ?_
      refine z_iadd (n := 1428) dL_law_1427 rfl ?_
      obtain ⟨h_642, hF⟩ := zg_some hF
      refine z_ialdK (n := 1429) ((v4_21 + 2).toNatClampNeg) rfl dL_law_1428 rfl hk_640 (zin_ok h_642) ?_
      obtain ⟨hm_643, hF⟩ := zg_some hF
      obtain ⟨n_644, hk_645, hF⟩ := zka_some hF
      obtain ⟨x_647, I_648, c_646, hF⟩ := zb2_some hF
      refine z_cV (n := 1432) (mc2 := (cc.1 + mE)) (ms2 := (cc.2 + wE)) (st := []) (C_X7_far htr (zMok_ok hm_643) c_646) dL_law_1429 rfl (lw_V q2184 q2185 q2186 q131 q2187) hcee_X7_far rfl (by decide) hk_645 rfl rfl rfl (Nat.le_of_ble_eq_true rfl) (Nat.le_refl _) (Nat.le_refl _) ?_
      obtain ⟨h_649, e_650, hF⟩ := zlet_ob hF
      refine z_toFI e_650 ?_
      refine z_istoreE (n := 1434) (lv' := [(6, .int x_647), (5, .int x_635), (0, .ref a0), (1, .ref o_4), (2, .ref 1860), (3, .ref o_19), (4, .int v4_21)]) dL_law_1432 rfl rfl (by decide) rfl ?_
      refine z_aload_n (n := 1435) dL_law_1434 rfl 4 rfl rfl ?_
      obtain ⟨hm_651, hF⟩ := zg_some hF
      obtain ⟨n_652, hk_653, hF⟩ := zka_some hF
      obtain ⟨x_655, c_654, hF⟩ := zb1_some hF
      refine z_cV (n := 1438) (mc2 := (cc.1 + mE)) (ms2 := (cc.2 + wE)) (st := []) (C_X7_thrown htr (zMok_ok hm_651) c_654) dL_law_1435 rfl (lw_V q1867 q1868 q1869 q131 q1870) hcee_X7_thrown rfl (by decide) hk_653 rfl rfl rfl (Nat.le_of_ble_eq_true rfl) (Nat.le_refl _) (Nat.le_refl _) ?_
      refine z_iload (n := 1440) dL_law_1438 rfl 1 rfl ?_
      refine z_icmp_eq (n := 1443) (t := 1445) dL_law_1440 rfl (by decide) (fun hc => ?_) (fun hc => ?_)
      · replace hF := (if_pos hc).symm.trans hF
        refine z_iload (n := 1447) dL_law_1445 rfl 1 rfl ?_
        refine z_if_ne (n := 1450) (t := 1462) dL_law_1447 rfl (by decide) (fun hc => ?_) (fun hc => ?_)
        · replace hF := (if_pos hc).symm.trans hF
          refine z_goto (t := 2216) dL_law_1462 (by decide) ?_
          obtain ⟨v4_656, e_657, hF⟩ := zlet_ob hF
          refine z_iincE (n := 2219) (w := 6) (v := v4_656) (lv' := [(4, .int v4_656), (6, .int x_647), (5, .int x_635), (0, .ref a0), (1, .ref o_4), (2, .ref 1860), (3, .ref o_19)]) dL_law_2216 rfl 6 rfl (by decide) e_657 (by decide) rfl ?_
          refine z_goto (t := 23) dL_law_2219 (by decide) ?_
          refine z_sub [3, 4, 5, 6, 0] rfl ?_
          obtain ⟨rfl, rfl⟩ := zpair hF
          refine z_eq (Nat.zero_add _) (Nat.zero_add _) ?_
          exact kl v4_656 h_649 rfl
        · replace hF := (if_neg hc).symm.trans hF
          refine z_aload_n (n := 1451) dL_law_1450 rfl 5 rfl rfl ?_
          refine z_iconst (n := 1452) (v := 0) dL_law_1451 rfl (by decide) ?_
          obtain ⟨n_658, hk_659, hF⟩ := zka_some hF
          obtain ⟨h_660, hF⟩ := zg_some hF
          refine z_laldK (n := 1453) 0 (by decide) dL_law_1452 rfl hk_659 (zin_ok h_660) ?_
          refine z_iload (n := 1455) dL_law_1453 rfl 0 rfl ?_
          refine z_i2l (n := 1456) dL_law_1455 rfl ?_
          refine z_lcmp (n := 1457) dL_law_1456 rfl ?_
          refine z_if_eq (n := 1460) (t := 1462) dL_law_1457 rfl (by decide) (fun hc => ?_) (fun hc => ?_)
          · replace hF := (if_pos hc).symm.trans hF
            refine z_goto (t := 2216) dL_law_1462 (by decide) ?_
            obtain ⟨v4_661, e_662, hF⟩ := zlet_ob hF
            refine z_iincE (n := 2219) (w := 6) (v := v4_661) (lv' := [(4, .int v4_661), (6, .int x_647), (5, .int x_635), (0, .ref a0), (1, .ref o_4), (2, .ref 1860), (3, .ref o_19)]) dL_law_2216 rfl 6 rfl (by decide) e_662 (by decide) rfl ?_
            refine z_goto (t := 23) dL_law_2219 (by decide) ?_
            refine z_sub [3, 4, 5, 6, 0] rfl ?_
            obtain ⟨rfl, rfl⟩ := zpair hF
            refine z_eq (Nat.zero_add _) (Nat.zero_add _) ?_
            exact kl v4_661 h_649 rfl
          · replace hF := (if_neg hc).symm.trans hF
            refine z_iconst (n := 1461) (v := 0) dL_law_1460 rfl (by decide) ?_
            obtain ⟨rfl, rfl⟩ := zpair hF
            exact z_iret dL_law_1461 rfl rfl (kq _ rfl)
      · replace hF := (if_neg hc).symm.trans hF
        refine z_iconst (n := 1444) (v := 0) dL_law_1443 rfl (by decide) ?_
        obtain ⟨rfl, rfl⟩ := zpair hF
        exact z_iret dL_law_1444 rfl rfl (kq _ rfl)
    replace hF := (if_neg ht22).symm.trans hF
    by_cases ht23 : (((hI h_22) a0 v4_21.toNatClampNeg) &&& (63 : Int32)) = 23
    · replace hF := (if_pos ht23).symm.trans hF
      refine z_tableIn (off := 1425) (t := 1465) dL_law_40 (by rw [ht23]; decide) (by rw [ht23]; decide) (by rw [ht23]; rfl) (by decide) ?_
      refine z_aload_n (n := 1466) dL_law_1465 rfl 1 rfl rfl ?_
      refine z_aload_n (n := 1467) dL_law_1466 rfl 0 rfl rfl ?_
      refine z_iload (n := 1469) dL_law_1467 rfl 4 rfl ?_
      refine z_iconst (n := 1470) (v := 1) dL_law_1469 rfl (by decide) ?_
      refine z_iadd (n := 1471) dL_law_1470 rfl ?_
      obtain ⟨h_663, hF⟩ := zg_some hF
      refine z_ialdK (n := 1472) ((v4_21 + 1).toNatClampNeg) rfl dL_law_1471 rfl hk_24 (zin_ok h_663) ?_
      refine z_aload_n (n := 1473) dL_law_1472 rfl 3 rfl rfl ?_
      obtain ⟨c_667, t_668, c_664, hF⟩ := zc1_some hF
      obtain ⟨x_665, h_666⟩ := t_668
      dsimp only [zn2] at hF
      obtain ⟨cc, hF, hcc⟩ := zpay_some hF
      refine z_payE hcc ?_
      refine z_cSH (n := 1476) (mc2 := (cc.1 + mE)) (ms2 := (cc.2 + wE)) (st := []) (C_X0_round htr c_664) dL_law_1473 rfl (lw_SW q1543 q1544 q104 q1545) hcee_X0_round rfl (by decide) rfl (Nat.le_of_ble_eq_true rfl) (Nat.le_of_eq (Nat.add_comm _ _)) (Nat.le_of_eq (Nat.add_comm _ _)) ?_
      refine z_istoreE (n := 1478) (lv' := [(5, .int x_665), (0, .ref a0), (1, .ref o_4), (2, .ref 1860), (3, .ref o_19), (4, .int v4_21)]) dL_law_1476 rfl rfl (by decide) rfl ?_
      refine z_aload_n (n := 1479) dL_law_1478 rfl 3 rfl rfl ?_
      refine z_aload_n (n := 1480) dL_law_1479 rfl 1 rfl rfl ?_
      refine z_iload (n := 1482) dL_law_1480 rfl 5 rfl ?_
      refine z_iconst (n := 1483) (v := 1) dL_law_1482 rfl (by decide) ?_
      refine z_iadd (n := 1484) dL_law_1483 rfl ?_
      obtain ⟨n_669, hk_670, hF⟩ := zka_some hF
      obtain ⟨h_671, hF⟩ := zg_some hF
      refine z_ialdK (n := 1485) ((v4_21 + 1).toNatClampNeg) rfl dL_law_1484 rfl hk_670 (zin_ok h_671) ?_
      obtain ⟨hm_672, hF⟩ := zg_some hF
      obtain ⟨n_673, hk_674, hF⟩ := zka_some hF
      obtain ⟨x_676, I_677, c_675, hF⟩ := zb2_some hF
      refine z_cV (n := 1488) (mc2 := (cc.1 + mE)) (ms2 := (cc.2 + wE)) (st := []) (C_X7_round htr (zMok_ok hm_672) c_675) dL_law_1485 rfl (lw_V q2196 q2197 q2198 q131 q2199) hcee_X7_round rfl (by decide) hk_674 rfl rfl rfl (Nat.le_of_ble_eq_true rfl) (Nat.le_refl _) (Nat.le_refl _) ?_
      obtain ⟨h_678, e_679, hF⟩ := zlet_ob hF
      refine z_toFI e_679 ?_
      refine z_istoreE (n := 1490) (lv' := [(6, .int x_676), (5, .int x_665), (0, .ref a0), (1, .ref o_4), (2, .ref 1860), (3, .ref o_19), (4, .int v4_21)]) dL_law_1488 rfl rfl (by decide) rfl ?_
      refine z_aload_n (n := 1491) dL_law_1490 rfl 4 rfl rfl ?_
      obtain ⟨hm_680, hF⟩ := zg_some hF
      obtain ⟨n_681, hk_682, hF⟩ := zka_some hF
      obtain ⟨x_684, c_683, hF⟩ := zb1_some hF
      refine z_cV (n := 1494) (mc2 := (cc.1 + mE)) (ms2 := (cc.2 + wE)) (st := []) (C_X7_thrown htr (zMok_ok hm_680) c_683) dL_law_1491 rfl (lw_V q1867 q1868 q1869 q131 q1870) hcee_X7_thrown rfl (by decide) hk_682 rfl rfl rfl (Nat.le_of_ble_eq_true rfl) (Nat.le_refl _) (Nat.le_refl _) ?_
      refine z_iload (n := 1496) dL_law_1494 rfl 1 rfl ?_
      refine z_icmp_eq (n := 1499) (t := 1501) dL_law_1496 rfl (by decide) (fun hc => ?_) (fun hc => ?_)
      · replace hF := (if_pos hc).symm.trans hF
        refine z_iload (n := 1503) dL_law_1501 rfl 1 rfl ?_
        refine z_if_ne (n := 1506) (t := 1518) dL_law_1503 rfl (by decide) (fun hc => ?_) (fun hc => ?_)
        · replace hF := (if_pos hc).symm.trans hF
          refine z_goto (t := 2216) dL_law_1518 (by decide) ?_
          obtain ⟨v4_685, e_686, hF⟩ := zlet_ob hF
          refine z_iincE (n := 2219) (w := 6) (v := v4_685) (lv' := [(4, .int v4_685), (6, .int x_676), (5, .int x_665), (0, .ref a0), (1, .ref o_4), (2, .ref 1860), (3, .ref o_19)]) dL_law_2216 rfl 6 rfl (by decide) e_686 (by decide) rfl ?_
          refine z_goto (t := 23) dL_law_2219 (by decide) ?_
          refine z_sub [3, 4, 5, 6, 0] rfl ?_
          obtain ⟨rfl, rfl⟩ := zpair hF
          refine z_eq (Nat.zero_add _) (Nat.zero_add _) ?_
          exact kl v4_685 h_678 rfl
        · replace hF := (if_neg hc).symm.trans hF
          refine z_aload_n (n := 1507) dL_law_1506 rfl 5 rfl rfl ?_
          refine z_iconst (n := 1508) (v := 0) dL_law_1507 rfl (by decide) ?_
          obtain ⟨n_687, hk_688, hF⟩ := zka_some hF
          obtain ⟨h_689, hF⟩ := zg_some hF
          refine z_laldK (n := 1509) 0 (by decide) dL_law_1508 rfl hk_688 (zin_ok h_689) ?_
          refine z_iload (n := 1511) dL_law_1509 rfl 0 rfl ?_
          refine z_i2l (n := 1512) dL_law_1511 rfl ?_
          refine z_lcmp (n := 1513) dL_law_1512 rfl ?_
          refine z_if_eq (n := 1516) (t := 1518) dL_law_1513 rfl (by decide) (fun hc => ?_) (fun hc => ?_)
          · replace hF := (if_pos hc).symm.trans hF
            refine z_goto (t := 2216) dL_law_1518 (by decide) ?_
            obtain ⟨v4_690, e_691, hF⟩ := zlet_ob hF
            refine z_iincE (n := 2219) (w := 6) (v := v4_690) (lv' := [(4, .int v4_690), (6, .int x_676), (5, .int x_665), (0, .ref a0), (1, .ref o_4), (2, .ref 1860), (3, .ref o_19)]) dL_law_2216 rfl 6 rfl (by decide) e_691 (by decide) rfl ?_
            refine z_goto (t := 23) dL_law_2219 (by decide) ?_
            refine z_sub [3, 4, 5, 6, 0] rfl ?_
            obtain ⟨rfl, rfl⟩ := zpair hF
            refine z_eq (Nat.zero_add _) (Nat.zero_add _) ?_
            exact kl v4_690 h_678 rfl
          · replace hF := (if_neg hc).symm.trans hF
            refine z_iconst (n := 1517) (v := 0) dL_law_1516 rfl (by decide) ?_
            obtain ⟨rfl, rfl⟩ := zpair hF
            exact z_iret dL_law_1517 rfl rfl (kq _ rfl)
      · replace hF := (if_neg hc).symm.trans hF
        refine z_iconst (n := 1500) (v := 0) dL_law_1499 rfl (by decide) ?_
        obtain ⟨rfl, rfl⟩ := zpair hF
        exact z_iret dL_law_1500 rfl rfl (kq _ rfl)
    replace hF := (if_neg ht23).symm.trans hF
    by_cases ht24 : (((hI h_22) a0 v4_21.toNatClampNeg) &&& (63 : Int32)) = 24
    · replace hF := (if_pos ht24).symm.trans hF
      refine z_tableIn (off := 1481) (t := 1521) dL_law_40 (by rw [ht24]; decide) (by rw [ht24]; decide) (by rw [ht24]; rfl) (by decide) ?_
      refine z_aload_n (n := 1522) dL_law_1521 rfl 1 rfl rfl ?_
      refine z_aload_n (n := 1523) dL_law_1522 rfl 0 rfl rfl ?_
      refine z_iload (n := 1525) dL_law_1523 rfl 4 rfl ?_
      refine z_iconst (n := 1526) (v := 1) dL_law_1525 rfl (by decide) ?_
      refine z_iadd (n := 1527) dL_law_1526 rfl ?_
      obtain ⟨h_692, hF⟩ := zg_some hF
      refine z_ialdK (n := 1528) ((v4_21 + 1).toNatClampNeg) rfl dL_law_1527 rfl hk_24 (zin_ok h_692) ?_
      refine z_aload_n (n := 1529) dL_law_1528 rfl 3 rfl rfl ?_
      obtain ⟨c_696, t_697, c_693, hF⟩ := zc1_some hF
      obtain ⟨x_694, h_695⟩ := t_697
      dsimp only [zn2] at hF
      obtain ⟨cc, hF, hcc⟩ := zpay_some hF
      refine z_payE hcc ?_
      refine z_cSH (n := 1532) (mc2 := (cc.1 + mE)) (ms2 := (cc.2 + wE)) (st := []) (C_X0_first htr c_693) dL_law_1529 rfl (lw_SW q1564 q1565 q104 q1566) hcee_X0_first rfl (by decide) rfl (Nat.le_of_ble_eq_true rfl) (Nat.le_of_eq (Nat.add_comm _ _)) (Nat.le_of_eq (Nat.add_comm _ _)) ?_
      refine z_istoreE (n := 1534) (lv' := [(5, .int x_694), (0, .ref a0), (1, .ref o_4), (2, .ref 1860), (3, .ref o_19), (4, .int v4_21)]) dL_law_1532 rfl rfl (by decide) rfl ?_
      refine z_aload_n (n := 1535) dL_law_1534 rfl 3 rfl rfl ?_
      refine z_aload_n (n := 1536) dL_law_1535 rfl 1 rfl rfl ?_
      refine z_iload (n := 1538) dL_law_1536 rfl 5 rfl ?_
      refine z_iconst (n := 1539) (v := 1) dL_law_1538 rfl (by decide) ?_
      refine z_iadd (n := 1540) dL_law_1539 rfl ?_
      obtain ⟨n_698, hk_699, hF⟩ := zka_some hF
      obtain ⟨h_700, hF⟩ := zg_some hF
      refine z_ialdK (n := 1541) ((v4_21 + 1).toNatClampNeg) rfl dL_law_1540 rfl hk_699 (zin_ok h_700) ?_
      obtain ⟨hm_701, hF⟩ := zg_some hF
      obtain ⟨n_702, hk_703, hF⟩ := zka_some hF
      obtain ⟨x_705, I_706, c_704, hF⟩ := zb2_some hF
      refine z_cV (n := 1544) (mc2 := (cc.1 + mE)) (ms2 := (cc.2 + wE)) (st := []) (C_X7_first htr (zMok_ok hm_701) c_704) dL_law_1541 rfl (lw_V q2207 q2208 q2209 q131 q2210) hcee_X7_first rfl (by decide) hk_703 rfl rfl rfl (Nat.le_of_ble_eq_true rfl) (Nat.le_refl _) (Nat.le_refl _) ?_
      obtain ⟨h_707, e_708, hF⟩ := zlet_ob hF
      refine z_toFI e_708 ?_
      refine z_istoreE (n := 1546) (lv' := [(6, .int x_705), (5, .int x_694), (0, .ref a0), (1, .ref o_4), (2, .ref 1860), (3, .ref o_19), (4, .int v4_21)]) dL_law_1544 rfl rfl (by decide) rfl ?_
      refine z_aload_n (n := 1547) dL_law_1546 rfl 4 rfl rfl ?_
      obtain ⟨hm_709, hF⟩ := zg_some hF
      obtain ⟨n_710, hk_711, hF⟩ := zka_some hF
      obtain ⟨x_713, c_712, hF⟩ := zb1_some hF
      refine z_cV (n := 1550) (mc2 := (cc.1 + mE)) (ms2 := (cc.2 + wE)) (st := []) (C_X7_thrown htr (zMok_ok hm_709) c_712) dL_law_1547 rfl (lw_V q1867 q1868 q1869 q131 q1870) hcee_X7_thrown rfl (by decide) hk_711 rfl rfl rfl (Nat.le_of_ble_eq_true rfl) (Nat.le_refl _) (Nat.le_refl _) ?_
      refine z_iload (n := 1552) dL_law_1550 rfl 1 rfl ?_
      refine z_icmp_eq (n := 1555) (t := 1557) dL_law_1552 rfl (by decide) (fun hc => ?_) (fun hc => ?_)
      · replace hF := (if_pos hc).symm.trans hF
        refine z_iload (n := 1559) dL_law_1557 rfl 1 rfl ?_
        refine z_if_ne (n := 1562) (t := 1574) dL_law_1559 rfl (by decide) (fun hc => ?_) (fun hc => ?_)
        · replace hF := (if_pos hc).symm.trans hF
          refine z_goto (t := 2216) dL_law_1574 (by decide) ?_
          obtain ⟨v4_714, e_715, hF⟩ := zlet_ob hF
          refine z_iincE (n := 2219) (w := 6) (v := v4_714) (lv' := [(4, .int v4_714), (6, .int x_705), (5, .int x_694), (0, .ref a0), (1, .ref o_4), (2, .ref 1860), (3, .ref o_19)]) dL_law_2216 rfl 6 rfl (by decide) e_715 (by decide) rfl ?_
          refine z_goto (t := 23) dL_law_2219 (by decide) ?_
          refine z_sub [3, 4, 5, 6, 0] rfl ?_
          obtain ⟨rfl, rfl⟩ := zpair hF
          refine z_eq (Nat.zero_add _) (Nat.zero_add _) ?_
          exact kl v4_714 h_707 rfl
        · replace hF := (if_neg hc).symm.trans hF
          refine z_aload_n (n := 1563) dL_law_1562 rfl 5 rfl rfl ?_
          refine z_iconst (n := 1564) (v := 0) dL_law_1563 rfl (by decide) ?_
          obtain ⟨n_716, hk_717, hF⟩ := zka_some hF
          obtain ⟨h_718, hF⟩ := zg_some hF
          refine z_laldK (n := 1565) 0 (by decide) dL_law_1564 rfl hk_717 (zin_ok h_718) ?_
          refine z_iload (n := 1567) dL_law_1565 rfl 0 rfl ?_
          refine z_i2l (n := 1568) dL_law_1567 rfl ?_
          refine z_lcmp (n := 1569) dL_law_1568 rfl ?_
          refine z_if_eq (n := 1572) (t := 1574) dL_law_1569 rfl (by decide) (fun hc => ?_) (fun hc => ?_)
          · replace hF := (if_pos hc).symm.trans hF
            refine z_goto (t := 2216) dL_law_1574 (by decide) ?_
            obtain ⟨v4_719, e_720, hF⟩ := zlet_ob hF
            refine z_iincE (n := 2219) (w := 6) (v := v4_719) (lv' := [(4, .int v4_719), (6, .int x_705), (5, .int x_694), (0, .ref a0), (1, .ref o_4), (2, .ref 1860), (3, .ref o_19)]) dL_law_2216 rfl 6 rfl (by decide) e_720 (by decide) rfl ?_
            refine z_goto (t := 23) dL_law_2219 (by decide) ?_
            refine z_sub [3, 4, 5, 6, 0] rfl ?_
            obtain ⟨rfl, rfl⟩ := zpair hF
            refine z_eq (Nat.zero_add _) (Nat.zero_add _) ?_
            exact kl v4_719 h_707 rfl
          · replace hF := (if_neg hc).symm.trans hF
            refine z_iconst (n := 1573) (v := 0) dL_law_1572 rfl (by decide) ?_
            obtain ⟨rfl, rfl⟩ := zpair hF
            exact z_iret dL_law_1573 rfl rfl (kq _ rfl)
      · replace hF := (if_neg hc).symm.trans hF
        refine z_iconst (n := 1556) (v := 0) dL_law_1555 rfl (by decide) ?_
        obtain ⟨rfl, rfl⟩ := zpair hF
        exact z_iret dL_law_1556 rfl rfl (kq _ rfl)
    replace hF := (if_neg ht24).symm.trans hF
    by_cases ht25 : (((hI h_22) a0 v4_21.toNatClampNeg) &&& (63 : Int32)) = 25
    · replace hF := (if_pos ht25).symm.trans hF
      refine z_tableIn (off := 1537) (t := 1577) dL_law_40 (by rw [ht25]; decide) (by rw [ht25]; decide) (by rw [ht25]; rfl) (by decide) ?_
      refine z_aload_n (n := 1578) dL_law_1577 rfl 1 rfl rfl ?_
      refine z_aload_n (n := 1579) dL_law_1578 rfl 0 rfl rfl ?_
      refine z_iload (n := 1581) dL_law_1579 rfl 4 rfl ?_
      refine z_iconst (n := 1582) (v := 1) dL_law_1581 rfl (by decide) ?_
      refine z_iadd (n := 1583) dL_law_1582 rfl ?_
      obtain ⟨h_721, hF⟩ := zg_some hF
      refine z_ialdK (n := 1584) ((v4_21 + 1).toNatClampNeg) rfl dL_law_1583 rfl hk_24 (zin_ok h_721) ?_
      refine z_aload_n (n := 1585) dL_law_1584 rfl 0 rfl rfl ?_
      refine z_iload (n := 1587) dL_law_1585 rfl 4 rfl ?_
      refine z_iconst (n := 1588) (v := 2) dL_law_1587 rfl (by decide) ?_
      refine z_iadd (n := 1589) dL_law_1588 rfl ?_
      obtain ⟨h_722, hF⟩ := zg_some hF
      refine z_ialdK (n := 1590) ((v4_21 + 2).toNatClampNeg) rfl dL_law_1589 rfl hk_24 (zin_ok h_722) ?_
      refine z_aload_n (n := 1591) dL_law_1590 rfl 0 rfl rfl ?_
      refine z_iload (n := 1593) dL_law_1591 rfl 4 rfl ?_
      refine z_iconst (n := 1594) (v := 3) dL_law_1593 rfl (by decide) ?_
      refine z_iadd (n := 1595) dL_law_1594 rfl ?_
      obtain ⟨h_723, hF⟩ := zg_some hF
      refine z_ialdK (n := 1596) ((v4_21 + 3).toNatClampNeg) rfl dL_law_1595 rfl hk_24 (zin_ok h_723) ?_
      refine z_aload_n (n := 1597) dL_law_1596 rfl 3 rfl rfl ?_
      obtain ⟨c_727, t_728, c_724, hF⟩ := zc1_some hF
      obtain ⟨x_725, h_726⟩ := t_728
      dsimp only [zn2] at hF
      obtain ⟨cc, hF, hcc⟩ := zpay_some hF
      refine z_payE hcc ?_
      refine z_cSH (n := 1600) (mc2 := (cc.1 + mE)) (ms2 := (cc.2 + wE)) (st := []) (C_X0_meeting htr c_724) dL_law_1597 rfl (lw_SW q1571 q1572 q104 q1573) hcee_X0_meeting rfl (by decide) rfl (Nat.le_of_ble_eq_true rfl) (Nat.le_of_eq (Nat.add_comm _ _)) (Nat.le_of_eq (Nat.add_comm _ _)) ?_
      refine z_istoreE (n := 1602) (lv' := [(5, .int x_725), (0, .ref a0), (1, .ref o_4), (2, .ref 1860), (3, .ref o_19), (4, .int v4_21)]) dL_law_1600 rfl rfl (by decide) rfl ?_
      refine z_aload_n (n := 1603) dL_law_1602 rfl 3 rfl rfl ?_
      refine z_aload_n (n := 1604) dL_law_1603 rfl 1 rfl rfl ?_
      refine z_iload (n := 1606) dL_law_1604 rfl 5 rfl ?_
      refine z_iconst (n := 1607) (v := 1) dL_law_1606 rfl (by decide) ?_
      refine z_iadd (n := 1608) dL_law_1607 rfl ?_
      obtain ⟨n_729, hk_730, hF⟩ := zka_some hF
      obtain ⟨h_731, hF⟩ := zg_some hF
      refine z_ialdK (n := 1609) ((v4_21 + 1).toNatClampNeg) rfl dL_law_1608 rfl hk_730 (zin_ok h_731) ?_
      refine z_aload_n (n := 1610) dL_law_1609 rfl 1 rfl rfl ?_
      refine z_iload (n := 1612) dL_law_1610 rfl 5 rfl ?_
      refine z_iconst (n := 1613) (v := 2) dL_law_1612 rfl (by decide) ?_
      refine z_iadd (n := 1614) dL_law_1613 rfl ?_
      obtain ⟨h_732, hF⟩ := zg_some hF
      refine z_ialdK (n := 1615) ((v4_21 + 2).toNatClampNeg) rfl dL_law_1614 rfl hk_730 (zin_ok h_732) ?_
      refine z_aload_n (n := 1616) dL_law_1615 rfl 1 rfl rfl ?_
      refine z_iload (n := 1618) dL_law_1616 rfl 5 rfl ?_
      refine z_iconst (n := 1619) (v := 3) dL_law_1618 rfl (by decide) ?_
      refine z_iadd (n := 1620) dL_law_1619 rfl ?_
      obtain ⟨h_733, hF⟩ := zg_some hF
      refine z_ialdK (n := 1621) ((v4_21 + 3).toNatClampNeg) rfl dL_law_1620 rfl hk_730 (zin_ok h_733) ?_
      obtain ⟨hm_734, hF⟩ := zg_some hF
      obtain ⟨n_735, hk_736, hF⟩ := zka_some hF
      obtain ⟨x_738, I_739, c_737, hF⟩ := zb2_some hF
      refine z_cV (n := 1624) (mc2 := (cc.1 + mE)) (ms2 := (cc.2 + wE)) (st := []) (C_X7_meeting htr (zMok_ok hm_734) c_737) dL_law_1621 rfl (lw_V q2211 q2212 q2213 q131 q2214) hcee_X7_meeting rfl (by decide) hk_736 rfl rfl rfl (Nat.le_of_ble_eq_true rfl) (Nat.le_refl _) (Nat.le_refl _) ?_
      obtain ⟨h_740, e_741, hF⟩ := zlet_ob hF
      refine z_toFI e_741 ?_
      refine z_istoreE (n := 1626) (lv' := [(6, .int x_738), (5, .int x_725), (0, .ref a0), (1, .ref o_4), (2, .ref 1860), (3, .ref o_19), (4, .int v4_21)]) dL_law_1624 rfl rfl (by decide) rfl ?_
      refine z_aload_n (n := 1627) dL_law_1626 rfl 4 rfl rfl ?_
      obtain ⟨hm_742, hF⟩ := zg_some hF
      obtain ⟨n_743, hk_744, hF⟩ := zka_some hF
      obtain ⟨x_746, c_745, hF⟩ := zb1_some hF
      refine z_cV (n := 1630) (mc2 := (cc.1 + mE)) (ms2 := (cc.2 + wE)) (st := []) (C_X7_thrown htr (zMok_ok hm_742) c_745) dL_law_1627 rfl (lw_V q1867 q1868 q1869 q131 q1870) hcee_X7_thrown rfl (by decide) hk_744 rfl rfl rfl (Nat.le_of_ble_eq_true rfl) (Nat.le_refl _) (Nat.le_refl _) ?_
      refine z_iload (n := 1632) dL_law_1630 rfl 1 rfl ?_
      refine z_icmp_eq (n := 1635) (t := 1637) dL_law_1632 rfl (by decide) (fun hc => ?_) (fun hc => ?_)
      · replace hF := (if_pos hc).symm.trans hF
        refine z_iload (n := 1639) dL_law_1637 rfl 1 rfl ?_
        refine z_if_ne (n := 1642) (t := 1654) dL_law_1639 rfl (by decide) (fun hc => ?_) (fun hc => ?_)
        · replace hF := (if_pos hc).symm.trans hF
          refine z_goto (t := 2216) dL_law_1654 (by decide) ?_
          obtain ⟨v4_747, e_748, hF⟩ := zlet_ob hF
          refine z_iincE (n := 2219) (w := 6) (v := v4_747) (lv' := [(4, .int v4_747), (6, .int x_738), (5, .int x_725), (0, .ref a0), (1, .ref o_4), (2, .ref 1860), (3, .ref o_19)]) dL_law_2216 rfl 6 rfl (by decide) e_748 (by decide) rfl ?_
          refine z_goto (t := 23) dL_law_2219 (by decide) ?_
          refine z_sub [3, 4, 5, 6, 0] rfl ?_
          obtain ⟨rfl, rfl⟩ := zpair hF
          refine z_eq (Nat.zero_add _) (Nat.zero_add _) ?_
          exact kl v4_747 h_740 rfl
        · replace hF := (if_neg hc).symm.trans hF
          refine z_aload_n (n := 1643) dL_law_1642 rfl 5 rfl rfl ?_
          refine z_iconst (n := 1644) (v := 0) dL_law_1643 rfl (by decide) ?_
          obtain ⟨n_749, hk_750, hF⟩ := zka_some hF
          obtain ⟨h_751, hF⟩ := zg_some hF
          refine z_laldK (n := 1645) 0 (by decide) dL_law_1644 rfl hk_750 (zin_ok h_751) ?_
          refine z_iload (n := 1647) dL_law_1645 rfl 0 rfl ?_
          refine z_i2l (n := 1648) dL_law_1647 rfl ?_
          refine z_lcmp (n := 1649) dL_law_1648 rfl ?_
          refine z_if_eq (n := 1652) (t := 1654) dL_law_1649 rfl (by decide) (fun hc => ?_) (fun hc => ?_)
          · replace hF := (if_pos hc).symm.trans hF
            refine z_goto (t := 2216) dL_law_1654 (by decide) ?_
            obtain ⟨v4_752, e_753, hF⟩ := zlet_ob hF
            refine z_iincE (n := 2219) (w := 6) (v := v4_752) (lv' := [(4, .int v4_752), (6, .int x_738), (5, .int x_725), (0, .ref a0), (1, .ref o_4), (2, .ref 1860), (3, .ref o_19)]) dL_law_2216 rfl 6 rfl (by decide) e_753 (by decide) rfl ?_
            refine z_goto (t := 23) dL_law_2219 (by decide) ?_
            refine z_sub [3, 4, 5, 6, 0] rfl ?_
            obtain ⟨rfl, rfl⟩ := zpair hF
            refine z_eq (Nat.zero_add _) (Nat.zero_add _) ?_
            exact kl v4_752 h_740 rfl
          · replace hF := (if_neg hc).symm.trans hF
            refine z_iconst (n := 1653) (v := 0) dL_law_1652 rfl (by decide) ?_
            obtain ⟨rfl, rfl⟩ := zpair hF
            exact z_iret dL_law_1653 rfl rfl (kq _ rfl)
      · replace hF := (if_neg hc).symm.trans hF
        refine z_iconst (n := 1636) (v := 0) dL_law_1635 rfl (by decide) ?_
        obtain ⟨rfl, rfl⟩ := zpair hF
        exact z_iret dL_law_1636 rfl rfl (kq _ rfl)
    replace hF := (if_neg ht25).symm.trans hF
    by_cases ht26 : (((hI h_22) a0 v4_21.toNatClampNeg) &&& (63 : Int32)) = 26
    · replace hF := (if_pos ht26).symm.trans hF
      refine z_tableIn (off := 1617) (t := 1657) dL_law_40 (by rw [ht26]; decide) (by rw [ht26]; decide) (by rw [ht26]; rfl) (by decide) ?_
      refine z_aload_n (n := 1658) dL_law_1657 rfl 1 rfl rfl ?_
      refine z_aload_n (n := 1659) dL_law_1658 rfl 0 rfl rfl ?_
      refine z_iload (n := 1661) dL_law_1659 rfl 4 rfl ?_
      refine z_iconst (n := 1662) (v := 1) dL_law_1661 rfl (by decide) ?_
      refine z_iadd (n := 1663) dL_law_1662 rfl ?_
      obtain ⟨h_754, hF⟩ := zg_some hF
      refine z_ialdK (n := 1664) ((v4_21 + 1).toNatClampNeg) rfl dL_law_1663 rfl hk_24 (zin_ok h_754) ?_
      refine z_aload_n (n := 1665) dL_law_1664 rfl 0 rfl rfl ?_
      refine z_iload (n := 1667) dL_law_1665 rfl 4 rfl ?_
      refine z_iconst (n := 1668) (v := 2) dL_law_1667 rfl (by decide) ?_
      refine z_iadd (n := 1669) dL_law_1668 rfl ?_
      obtain ⟨h_755, hF⟩ := zg_some hF
      refine z_ialdK (n := 1670) ((v4_21 + 2).toNatClampNeg) rfl dL_law_1669 rfl hk_24 (zin_ok h_755) ?_
      refine z_aload_n (n := 1671) dL_law_1670 rfl 0 rfl rfl ?_
      refine z_iload (n := 1673) dL_law_1671 rfl 4 rfl ?_
      refine z_iconst (n := 1674) (v := 3) dL_law_1673 rfl (by decide) ?_
      refine z_iadd (n := 1675) dL_law_1674 rfl ?_
      obtain ⟨h_756, hF⟩ := zg_some hF
      refine z_ialdK (n := 1676) ((v4_21 + 3).toNatClampNeg) rfl dL_law_1675 rfl hk_24 (zin_ok h_756) ?_
      refine z_aload_n (n := 1677) dL_law_1676 rfl 3 rfl rfl ?_
      obtain ⟨c_760, t_761, c_757, hF⟩ := zc1_some hF
      obtain ⟨x_758, h_759⟩ := t_761
      dsimp only [zn2] at hF
      obtain ⟨cc, hF, hcc⟩ := zpay_some hF
      refine z_payE hcc ?_
      refine z_cSH (n := 1680) (mc2 := (cc.1 + mE)) (ms2 := (cc.2 + wE)) (st := []) (C_X0_where htr c_757) dL_law_1677 rfl (lw_SW q1579 q1580 q104 q1581) hcee_X0_where rfl (by decide) rfl (Nat.le_of_ble_eq_true rfl) (Nat.le_of_eq (Nat.add_comm _ _)) (Nat.le_of_eq (Nat.add_comm _ _)) ?_
      refine z_istoreE (n := 1682) (lv' := [(5, .int x_758), (0, .ref a0), (1, .ref o_4), (2, .ref 1860), (3, .ref o_19), (4, .int v4_21)]) dL_law_1680 rfl rfl (by decide) rfl ?_
      refine z_aload_n (n := 1683) dL_law_1682 rfl 3 rfl rfl ?_
      refine z_aload_n (n := 1684) dL_law_1683 rfl 1 rfl rfl ?_
      refine z_iload (n := 1686) dL_law_1684 rfl 5 rfl ?_
      refine z_iconst (n := 1687) (v := 1) dL_law_1686 rfl (by decide) ?_
      refine z_iadd (n := 1688) dL_law_1687 rfl ?_
      obtain ⟨n_762, hk_763, hF⟩ := zka_some hF
      obtain ⟨h_764, hF⟩ := zg_some hF
      refine z_ialdK (n := 1689) ((v4_21 + 1).toNatClampNeg) rfl dL_law_1688 rfl hk_763 (zin_ok h_764) ?_
      refine z_aload_n (n := 1690) dL_law_1689 rfl 1 rfl rfl ?_
      refine z_iload (n := 1692) dL_law_1690 rfl 5 rfl ?_
      refine z_iconst (n := 1693) (v := 2) dL_law_1692 rfl (by decide) ?_
      refine z_iadd (n := 1694) dL_law_1693 rfl ?_
      obtain ⟨h_765, hF⟩ := zg_some hF
      refine z_ialdK (n := 1695) ((v4_21 + 2).toNatClampNeg) rfl dL_law_1694 rfl hk_763 (zin_ok h_765) ?_
      refine z_aload_n (n := 1696) dL_law_1695 rfl 1 rfl rfl ?_
      refine z_iload (n := 1698) dL_law_1696 rfl 5 rfl ?_
      refine z_iconst (n := 1699) (v := 3) dL_law_1698 rfl (by decide) ?_
      refine z_iadd (n := 1700) dL_law_1699 rfl ?_
      obtain ⟨h_766, hF⟩ := zg_some hF
      refine z_ialdK (n := 1701) ((v4_21 + 3).toNatClampNeg) rfl dL_law_1700 rfl hk_763 (zin_ok h_766) ?_
      obtain ⟨hm_767, hF⟩ := zg_some hF
      obtain ⟨n_768, hk_769, hF⟩ := zka_some hF
      obtain ⟨x_771, I_772, c_770, hF⟩ := zb2_some hF
      refine z_cV (n := 1704) (mc2 := (cc.1 + mE)) (ms2 := (cc.2 + wE)) (st := []) (C_X7_where htr (zMok_ok hm_767) c_770) dL_law_1701 rfl (lw_V q2215 q2216 q2217 q131 q2218) hcee_X7_where rfl (by decide) hk_769 rfl rfl rfl (Nat.le_of_ble_eq_true rfl) (Nat.le_refl _) (Nat.le_refl _) ?_
      obtain ⟨h_773, e_774, hF⟩ := zlet_ob hF
      refine z_toFI e_774 ?_
      refine z_istoreE (n := 1706) (lv' := [(6, .int x_771), (5, .int x_758), (0, .ref a0), (1, .ref o_4), (2, .ref 1860), (3, .ref o_19), (4, .int v4_21)]) dL_law_1704 rfl rfl (by decide) rfl ?_
      refine z_aload_n (n := 1707) dL_law_1706 rfl 4 rfl rfl ?_
      obtain ⟨hm_775, hF⟩ := zg_some hF
      obtain ⟨n_776, hk_777, hF⟩ := zka_some hF
      obtain ⟨x_779, c_778, hF⟩ := zb1_some hF
      refine z_cV (n := 1710) (mc2 := (cc.1 + mE)) (ms2 := (cc.2 + wE)) (st := []) (C_X7_thrown htr (zMok_ok hm_775) c_778) dL_law_1707 rfl (lw_V q1867 q1868 q1869 q131 q1870) hcee_X7_thrown rfl (by decide) hk_777 rfl rfl rfl (Nat.le_of_ble_eq_true rfl) (Nat.le_refl _) (Nat.le_refl _) ?_
      refine z_iload (n := 1712) dL_law_1710 rfl 1 rfl ?_
      refine z_icmp_eq (n := 1715) (t := 1717) dL_law_1712 rfl (by decide) (fun hc => ?_) (fun hc => ?_)
      · replace hF := (if_pos hc).symm.trans hF
        refine z_iload (n := 1719) dL_law_1717 rfl 1 rfl ?_
        refine z_if_ne (n := 1722) (t := 1734) dL_law_1719 rfl (by decide) (fun hc => ?_) (fun hc => ?_)
        · replace hF := (if_pos hc).symm.trans hF
          refine z_goto (t := 2216) dL_law_1734 (by decide) ?_
          obtain ⟨v4_780, e_781, hF⟩ := zlet_ob hF
          refine z_iincE (n := 2219) (w := 6) (v := v4_780) (lv' := [(4, .int v4_780), (6, .int x_771), (5, .int x_758), (0, .ref a0), (1, .ref o_4), (2, .ref 1860), (3, .ref o_19)]) dL_law_2216 rfl 6 rfl (by decide) e_781 (by decide) rfl ?_
          refine z_goto (t := 23) dL_law_2219 (by decide) ?_
          refine z_sub [3, 4, 5, 6, 0] rfl ?_
          obtain ⟨rfl, rfl⟩ := zpair hF
          refine z_eq (Nat.zero_add _) (Nat.zero_add _) ?_
          exact kl v4_780 h_773 rfl
        · replace hF := (if_neg hc).symm.trans hF
          refine z_aload_n (n := 1723) dL_law_1722 rfl 5 rfl rfl ?_
          refine z_iconst (n := 1724) (v := 0) dL_law_1723 rfl (by decide) ?_
          obtain ⟨n_782, hk_783, hF⟩ := zka_some hF
          obtain ⟨h_784, hF⟩ := zg_some hF
          refine z_laldK (n := 1725) 0 (by decide) dL_law_1724 rfl hk_783 (zin_ok h_784) ?_
          refine z_iload (n := 1727) dL_law_1725 rfl 0 rfl ?_
          refine z_i2l (n := 1728) dL_law_1727 rfl ?_
          refine z_lcmp (n := 1729) dL_law_1728 rfl ?_
          refine z_if_eq (n := 1732) (t := 1734) dL_law_1729 rfl (by decide) (fun hc => ?_) (fun hc => ?_)
          · replace hF := (if_pos hc).symm.trans hF
            refine z_goto (t := 2216) dL_law_1734 (by decide) ?_
            obtain ⟨v4_785, e_786, hF⟩ := zlet_ob hF
            refine z_iincE (n := 2219) (w := 6) (v := v4_785) (lv' := [(4, .int v4_785), (6, .int x_771), (5, .int x_758), (0, .ref a0), (1, .ref o_4), (2, .ref 1860), (3, .ref o_19)]) dL_law_2216 rfl 6 rfl (by decide) e_786 (by decide) rfl ?_
            refine z_goto (t := 23) dL_law_2219 (by decide) ?_
            refine z_sub [3, 4, 5, 6, 0] rfl ?_
            obtain ⟨rfl, rfl⟩ := zpair hF
            refine z_eq (Nat.zero_add _) (Nat.zero_add _) ?_
            exact kl v4_785 h_773 rfl
          · replace hF := (if_neg hc).symm.trans hF
            refine z_iconst (n := 1733) (v := 0) dL_law_1732 rfl (by decide) ?_
            obtain ⟨rfl, rfl⟩ := zpair hF
            exact z_iret dL_law_1733 rfl rfl (kq _ rfl)
      · replace hF := (if_neg hc).symm.trans hF
        refine z_iconst (n := 1716) (v := 0) dL_law_1715 rfl (by decide) ?_
        obtain ⟨rfl, rfl⟩ := zpair hF
        exact z_iret dL_law_1716 rfl rfl (kq _ rfl)
    replace hF := (if_neg ht26).symm.trans hF
    by_cases ht27 : (((hI h_22) a0 v4_21.toNatClampNeg) &&& (63 : Int32)) = 27
    · replace hF := (if_pos ht27).symm.trans hF
      refine z_tableIn (off := 1697) (t := 1737) dL_law_40 (by rw [ht27]; decide) (by rw [ht27]; decide) (by rw [ht27]; rfl) (by decide) ?_
      refine z_aload_n (n := 1738) dL_law_1737 rfl 1 rfl rfl ?_
      refine z_aload_n (n := 1739) dL_law_1738 rfl 0 rfl rfl ?_
      refine z_iload (n := 1741) dL_law_1739 rfl 4 rfl ?_
      refine z_iconst (n := 1742) (v := 1) dL_law_1741 rfl (by decide) ?_
      refine z_iadd (n := 1743) dL_law_1742 rfl ?_
      obtain ⟨h_787, hF⟩ := zg_some hF
      refine z_ialdK (n := 1744) ((v4_21 + 1).toNatClampNeg) rfl dL_law_1743 rfl hk_24 (zin_ok h_787) ?_
      refine z_aload_n (n := 1745) dL_law_1744 rfl 0 rfl rfl ?_
      refine z_iload (n := 1747) dL_law_1745 rfl 4 rfl ?_
      refine z_iconst (n := 1748) (v := 2) dL_law_1747 rfl (by decide) ?_
      refine z_iadd (n := 1749) dL_law_1748 rfl ?_
      obtain ⟨h_788, hF⟩ := zg_some hF
      refine z_ialdK (n := 1750) ((v4_21 + 2).toNatClampNeg) rfl dL_law_1749 rfl hk_24 (zin_ok h_788) ?_
      refine z_aload_n (n := 1751) dL_law_1750 rfl 3 rfl rfl ?_
      obtain ⟨c_792, t_793, c_789, hF⟩ := zc1_some hF
      obtain ⟨x_790, h_791⟩ := t_793
      dsimp only [zn2] at hF
      obtain ⟨cc, hF, hcc⟩ := zpay_some hF
      refine z_payE hcc ?_
      refine z_cSH (n := 1754) (mc2 := (cc.1 + mE)) (ms2 := (cc.2 + wE)) (st := []) (C_X0_counted htr c_789) dL_law_1751 rfl (lw_SW q1590 q1591 q104 q1592) hcee_X0_counted rfl (by decide) rfl (Nat.le_of_ble_eq_true rfl) (Nat.le_of_eq (Nat.add_comm _ _)) (Nat.le_of_eq (Nat.add_comm _ _)) ?_
      refine z_istoreE (n := 1756) (lv' := [(5, .int x_790), (0, .ref a0), (1, .ref o_4), (2, .ref 1860), (3, .ref o_19), (4, .int v4_21)]) dL_law_1754 rfl rfl (by decide) rfl ?_
      refine z_aload_n (n := 1757) dL_law_1756 rfl 3 rfl rfl ?_
      refine z_aload_n (n := 1758) dL_law_1757 rfl 1 rfl rfl ?_
      refine z_iload (n := 1760) dL_law_1758 rfl 5 rfl ?_
      refine z_iconst (n := 1761) (v := 1) dL_law_1760 rfl (by decide) ?_
      refine z_iadd (n := 1762) dL_law_1761 rfl ?_
      obtain ⟨n_794, hk_795, hF⟩ := zka_some hF
      obtain ⟨h_796, hF⟩ := zg_some hF
      refine z_ialdK (n := 1763) ((v4_21 + 1).toNatClampNeg) rfl dL_law_1762 rfl hk_795 (zin_ok h_796) ?_
      refine z_aload_n (n := 1764) dL_law_1763 rfl 1 rfl rfl ?_
      refine z_iload (n := 1766) dL_law_1764 rfl 5 rfl ?_
      refine z_iconst (n := 1767) (v := 2) dL_law_1766 rfl (by decide) ?_
      refine z_iadd (n := 1768) dL_law_1767 rfl ?_
      obtain ⟨h_797, hF⟩ := zg_some hF
      refine z_ialdK (n := 1769) ((v4_21 + 2).toNatClampNeg) rfl dL_law_1768 rfl hk_795 (zin_ok h_797) ?_
      obtain ⟨hm_798, hF⟩ := zg_some hF
      obtain ⟨n_799, hk_800, hF⟩ := zka_some hF
      obtain ⟨x_802, I_803, c_801, hF⟩ := zb2_some hF
      refine z_cV (n := 1772) (mc2 := (cc.1 + mE)) (ms2 := (cc.2 + wE)) (st := []) (C_X7_counted htr (zMok_ok hm_798) c_801) dL_law_1769 rfl (lw_V q2224 q2225 q2226 q131 q2227) hcee_X7_counted rfl (by decide) hk_800 rfl rfl rfl (Nat.le_of_ble_eq_true rfl) (Nat.le_refl _) (Nat.le_refl _) ?_
      obtain ⟨h_804, e_805, hF⟩ := zlet_ob hF
      refine z_toFI e_805 ?_
      refine z_istoreE (n := 1774) (lv' := [(6, .int x_802), (5, .int x_790), (0, .ref a0), (1, .ref o_4), (2, .ref 1860), (3, .ref o_19), (4, .int v4_21)]) dL_law_1772 rfl rfl (by decide) rfl ?_
      refine z_aload_n (n := 1775) dL_law_1774 rfl 4 rfl rfl ?_
      obtain ⟨hm_806, hF⟩ := zg_some hF
      obtain ⟨n_807, hk_808, hF⟩ := zka_some hF
      obtain ⟨x_810, c_809, hF⟩ := zb1_some hF
      refine z_cV (n := 1778) (mc2 := (cc.1 + mE)) (ms2 := (cc.2 + wE)) (st := []) (C_X7_thrown htr (zMok_ok hm_806) c_809) dL_law_1775 rfl (lw_V q1867 q1868 q1869 q131 q1870) hcee_X7_thrown rfl (by decide) hk_808 rfl rfl rfl (Nat.le_of_ble_eq_true rfl) (Nat.le_refl _) (Nat.le_refl _) ?_
      refine z_iload (n := 1780) dL_law_1778 rfl 1 rfl ?_
      refine z_icmp_eq (n := 1783) (t := 1785) dL_law_1780 rfl (by decide) (fun hc => ?_) (fun hc => ?_)
      · replace hF := (if_pos hc).symm.trans hF
        refine z_iload (n := 1787) dL_law_1785 rfl 1 rfl ?_
        refine z_if_ne (n := 1790) (t := 1802) dL_law_1787 rfl (by decide) (fun hc => ?_) (fun hc => ?_)
        · replace hF := (if_pos hc).symm.trans hF
          refine z_goto (t := 2216) dL_law_1802 (by decide) ?_
          obtain ⟨v4_811, e_812, hF⟩ := zlet_ob hF
          refine z_iincE (n := 2219) (w := 6) (v := v4_811) (lv' := [(4, .int v4_811), (6, .int x_802), (5, .int x_790), (0, .ref a0), (1, .ref o_4), (2, .ref 1860), (3, .ref o_19)]) dL_law_2216 rfl 6 rfl (by decide) e_812 (by decide) rfl ?_
          refine z_goto (t := 23) dL_law_2219 (by decide) ?_
          refine z_sub [3, 4, 5, 6, 0] rfl ?_
          obtain ⟨rfl, rfl⟩ := zpair hF
          refine z_eq (Nat.zero_add _) (Nat.zero_add _) ?_
          exact kl v4_811 h_804 rfl
        · replace hF := (if_neg hc).symm.trans hF
          refine z_aload_n (n := 1791) dL_law_1790 rfl 5 rfl rfl ?_
          refine z_iconst (n := 1792) (v := 0) dL_law_1791 rfl (by decide) ?_
          obtain ⟨n_813, hk_814, hF⟩ := zka_some hF
          obtain ⟨h_815, hF⟩ := zg_some hF
          refine z_laldK (n := 1793) 0 (by decide) dL_law_1792 rfl hk_814 (zin_ok h_815) ?_
          refine z_iload (n := 1795) dL_law_1793 rfl 0 rfl ?_
          refine z_i2l (n := 1796) dL_law_1795 rfl ?_
          refine z_lcmp (n := 1797) dL_law_1796 rfl ?_
          refine z_if_eq (n := 1800) (t := 1802) dL_law_1797 rfl (by decide) (fun hc => ?_) (fun hc => ?_)
          · replace hF := (if_pos hc).symm.trans hF
            refine z_goto (t := 2216) dL_law_1802 (by decide) ?_
            obtain ⟨v4_816, e_817, hF⟩ := zlet_ob hF
            refine z_iincE (n := 2219) (w := 6) (v := v4_816) (lv' := [(4, .int v4_816), (6, .int x_802), (5, .int x_790), (0, .ref a0), (1, .ref o_4), (2, .ref 1860), (3, .ref o_19)]) dL_law_2216 rfl 6 rfl (by decide) e_817 (by decide) rfl ?_
            refine z_goto (t := 23) dL_law_2219 (by decide) ?_
            refine z_sub [3, 4, 5, 6, 0] rfl ?_
            obtain ⟨rfl, rfl⟩ := zpair hF
            refine z_eq (Nat.zero_add _) (Nat.zero_add _) ?_
            exact kl v4_816 h_804 rfl
          · replace hF := (if_neg hc).symm.trans hF
            refine z_iconst (n := 1801) (v := 0) dL_law_1800 rfl (by decide) ?_
            obtain ⟨rfl, rfl⟩ := zpair hF
            exact z_iret dL_law_1801 rfl rfl (kq _ rfl)
      · replace hF := (if_neg hc).symm.trans hF
        refine z_iconst (n := 1784) (v := 0) dL_law_1783 rfl (by decide) ?_
        obtain ⟨rfl, rfl⟩ := zpair hF
        exact z_iret dL_law_1784 rfl rfl (kq _ rfl)
    replace hF := (if_neg ht27).symm.trans hF
    by_cases ht28 : (((hI h_22) a0 v4_21.toNatClampNeg) &&& (63 : Int32)) = 28
    · replace hF := (if_pos ht28).symm.trans hF
      refine z_tableIn (off := 1765) (t := 1805) dL_law_40 (by rw [ht28]; decide) (by rw [ht28]; decide) (by rw [ht28]; rfl) (by decide) ?_
      refine z_aload_n (n := 1806) dL_law_1805 rfl 1 rfl rfl ?_
      refine z_aload_n (n := 1807) dL_law_1806 rfl 0 rfl rfl ?_
      refine z_iload (n := 1809) dL_law_1807 rfl 4 rfl ?_
      refine z_iconst (n := 1810) (v := 1) dL_law_1809 rfl (by decide) ?_
      refine z_iadd (n := 1811) dL_law_1810 rfl ?_
      obtain ⟨h_818, hF⟩ := zg_some hF
      refine z_ialdK (n := 1812) ((v4_21 + 1).toNatClampNeg) rfl dL_law_1811 rfl hk_24 (zin_ok h_818) ?_
      refine z_aload_n (n := 1813) dL_law_1812 rfl 0 rfl rfl ?_
      refine z_iload (n := 1815) dL_law_1813 rfl 4 rfl ?_
      refine z_iconst (n := 1816) (v := 2) dL_law_1815 rfl (by decide) ?_
      refine z_iadd (n := 1817) dL_law_1816 rfl ?_
      obtain ⟨h_819, hF⟩ := zg_some hF
      refine z_ialdK (n := 1818) ((v4_21 + 2).toNatClampNeg) rfl dL_law_1817 rfl hk_24 (zin_ok h_819) ?_
      refine z_aload_n (n := 1819) dL_law_1818 rfl 0 rfl rfl ?_
      refine z_iload (n := 1821) dL_law_1819 rfl 4 rfl ?_
      refine z_iconst (n := 1822) (v := 3) dL_law_1821 rfl (by decide) ?_
      refine z_iadd (n := 1823) dL_law_1822 rfl ?_
      obtain ⟨h_820, hF⟩ := zg_some hF
      refine z_ialdK (n := 1824) ((v4_21 + 3).toNatClampNeg) rfl dL_law_1823 rfl hk_24 (zin_ok h_820) ?_
      refine z_aload_n (n := 1825) dL_law_1824 rfl 3 rfl rfl ?_
      obtain ⟨c_824, t_825, c_821, hF⟩ := zc1_some hF
      obtain ⟨x_822, h_823⟩ := t_825
      dsimp only [zn2] at hF
      obtain ⟨cc, hF, hcc⟩ := zpay_some hF
      refine z_payE hcc ?_
      refine z_cSH (n := 1828) (mc2 := (cc.1 + mE)) (ms2 := (cc.2 + wE)) (st := []) (C_X0_spy htr c_821) dL_law_1825 rfl (lw_SW q1597 q1598 q104 q1599) hcee_X0_spy rfl (by decide) rfl (Nat.le_of_ble_eq_true rfl) (Nat.le_of_eq (Nat.add_comm _ _)) (Nat.le_of_eq (Nat.add_comm _ _)) ?_
      refine z_istoreE (n := 1830) (lv' := [(5, .int x_822), (0, .ref a0), (1, .ref o_4), (2, .ref 1860), (3, .ref o_19), (4, .int v4_21)]) dL_law_1828 rfl rfl (by decide) rfl ?_
      refine z_aload_n (n := 1831) dL_law_1830 rfl 3 rfl rfl ?_
      refine z_aload_n (n := 1832) dL_law_1831 rfl 1 rfl rfl ?_
      refine z_iload (n := 1834) dL_law_1832 rfl 5 rfl ?_
      refine z_iconst (n := 1835) (v := 1) dL_law_1834 rfl (by decide) ?_
      refine z_iadd (n := 1836) dL_law_1835 rfl ?_
      obtain ⟨n_826, hk_827, hF⟩ := zka_some hF
      obtain ⟨h_828, hF⟩ := zg_some hF
      refine z_ialdK (n := 1837) ((v4_21 + 1).toNatClampNeg) rfl dL_law_1836 rfl hk_827 (zin_ok h_828) ?_
      refine z_aload_n (n := 1838) dL_law_1837 rfl 1 rfl rfl ?_
      refine z_iload (n := 1840) dL_law_1838 rfl 5 rfl ?_
      refine z_iconst (n := 1841) (v := 2) dL_law_1840 rfl (by decide) ?_
      refine z_iadd (n := 1842) dL_law_1841 rfl ?_
      obtain ⟨h_829, hF⟩ := zg_some hF
      refine z_ialdK (n := 1843) ((v4_21 + 2).toNatClampNeg) rfl dL_law_1842 rfl hk_827 (zin_ok h_829) ?_
      refine z_aload_n (n := 1844) dL_law_1843 rfl 1 rfl rfl ?_
      refine z_iload (n := 1846) dL_law_1844 rfl 5 rfl ?_
      refine z_iconst (n := 1847) (v := 3) dL_law_1846 rfl (by decide) ?_
      refine z_iadd (n := 1848) dL_law_1847 rfl ?_
      obtain ⟨h_830, hF⟩ := zg_some hF
      refine z_ialdK (n := 1849) ((v4_21 + 3).toNatClampNeg) rfl dL_law_1848 rfl hk_827 (zin_ok h_830) ?_
      obtain ⟨hm_831, hF⟩ := zg_some hF
      obtain ⟨n_832, hk_833, hF⟩ := zka_some hF
      obtain ⟨x_835, I_836, c_834, hF⟩ := zb2_some hF
      refine z_cV (n := 1852) (mc2 := (cc.1 + mE)) (ms2 := (cc.2 + wE)) (st := []) (C_X7_spy htr (zMok_ok hm_831) c_834) dL_law_1849 rfl (lw_V q2228 q2229 q2230 q131 q2231) hcee_X7_spy rfl (by decide) hk_833 rfl rfl rfl (Nat.le_of_ble_eq_true rfl) (Nat.le_refl _) (Nat.le_refl _) ?_
      obtain ⟨h_837, e_838, hF⟩ := zlet_ob hF
      refine z_toFI e_838 ?_
      refine z_istoreE (n := 1854) (lv' := [(6, .int x_835), (5, .int x_822), (0, .ref a0), (1, .ref o_4), (2, .ref 1860), (3, .ref o_19), (4, .int v4_21)]) dL_law_1852 rfl rfl (by decide) rfl ?_
      refine z_aload_n (n := 1855) dL_law_1854 rfl 4 rfl rfl ?_
      obtain ⟨hm_839, hF⟩ := zg_some hF
      obtain ⟨n_840, hk_841, hF⟩ := zka_some hF
      obtain ⟨x_843, c_842, hF⟩ := zb1_some hF
      refine z_cV (n := 1858) (mc2 := (cc.1 + mE)) (ms2 := (cc.2 + wE)) (st := []) (C_X7_thrown htr (zMok_ok hm_839) c_842) dL_law_1855 rfl (lw_V q1867 q1868 q1869 q131 q1870) hcee_X7_thrown rfl (by decide) hk_841 rfl rfl rfl (Nat.le_of_ble_eq_true rfl) (Nat.le_refl _) (Nat.le_refl _) ?_
      refine z_iload (n := 1860) dL_law_1858 rfl 1 rfl ?_
      refine z_icmp_eq (n := 1863) (t := 1865) dL_law_1860 rfl (by decide) (fun hc => ?_) (fun hc => ?_)
      · replace hF := (if_pos hc).symm.trans hF
        refine z_iload (n := 1867) dL_law_1865 rfl 1 rfl ?_
        refine z_if_ne (n := 1870) (t := 1882) dL_law_1867 rfl (by decide) (fun hc => ?_) (fun hc => ?_)
        · replace hF := (if_pos hc).symm.trans hF
          refine z_goto (t := 2216) dL_law_1882 (by decide) ?_
          obtain ⟨v4_844, e_845, hF⟩ := zlet_ob hF
          refine z_iincE (n := 2219) (w := 6) (v := v4_844) (lv' := [(4, .int v4_844), (6, .int x_835), (5, .int x_822), (0, .ref a0), (1, .ref o_4), (2, .ref 1860), (3, .ref o_19)]) dL_law_2216 rfl 6 rfl (by decide) e_845 (by decide) rfl ?_
          refine z_goto (t := 23) dL_law_2219 (by decide) ?_
          refine z_sub [3, 4, 5, 6, 0] rfl ?_
          obtain ⟨rfl, rfl⟩ := zpair hF
          refine z_eq (Nat.zero_add _) (Nat.zero_add _) ?_
          exact kl v4_844 h_837 rfl
        · replace hF := (if_neg hc).symm.trans hF
          refine z_aload_n (n := 1871) dL_law_1870 rfl 5 rfl rfl ?_
          refine z_iconst (n := 1872) (v := 0) dL_law_1871 rfl (by decide) ?_
          obtain ⟨n_846, hk_847, hF⟩ := zka_some hF
          obtain ⟨h_848, hF⟩ := zg_some hF
          refine z_laldK (n := 1873) 0 (by decide) dL_law_1872 rfl hk_847 (zin_ok h_848) ?_
          refine z_iload (n := 1875) dL_law_1873 rfl 0 rfl ?_
          refine z_i2l (n := 1876) dL_law_1875 rfl ?_
          refine z_lcmp (n := 1877) dL_law_1876 rfl ?_
          refine z_if_eq (n := 1880) (t := 1882) dL_law_1877 rfl (by decide) (fun hc => ?_) (fun hc => ?_)
          · replace hF := (if_pos hc).symm.trans hF
            refine z_goto (t := 2216) dL_law_1882 (by decide) ?_
            obtain ⟨v4_849, e_850, hF⟩ := zlet_ob hF
            refine z_iincE (n := 2219) (w := 6) (v := v4_849) (lv' := [(4, .int v4_849), (6, .int x_835), (5, .int x_822), (0, .ref a0), (1, .ref o_4), (2, .ref 1860), (3, .ref o_19)]) dL_law_2216 rfl 6 rfl (by decide) e_850 (by decide) rfl ?_
            refine z_goto (t := 23) dL_law_2219 (by decide) ?_
            refine z_sub [3, 4, 5, 6, 0] rfl ?_
            obtain ⟨rfl, rfl⟩ := zpair hF
            refine z_eq (Nat.zero_add _) (Nat.zero_add _) ?_
            exact kl v4_849 h_837 rfl
          · replace hF := (if_neg hc).symm.trans hF
            refine z_iconst (n := 1881) (v := 0) dL_law_1880 rfl (by decide) ?_
            obtain ⟨rfl, rfl⟩ := zpair hF
            exact z_iret dL_law_1881 rfl rfl (kq _ rfl)
      · replace hF := (if_neg hc).symm.trans hF
        refine z_iconst (n := 1864) (v := 0) dL_law_1863 rfl (by decide) ?_
        obtain ⟨rfl, rfl⟩ := zpair hF
        exact z_iret dL_law_1864 rfl rfl (kq _ rfl)
    replace hF := (if_neg ht28).symm.trans hF
    by_cases ht29 : (((hI h_22) a0 v4_21.toNatClampNeg) &&& (63 : Int32)) = 29
    · replace hF := (if_pos ht29).symm.trans hF
      refine z_tableIn (off := 1845) (t := 1885) dL_law_40 (by rw [ht29]; decide) (by rw [ht29]; decide) (by rw [ht29]; rfl) (by decide) ?_
      refine z_aload_n (n := 1886) dL_law_1885 rfl 1 rfl rfl ?_
      refine z_aload_n (n := 1887) dL_law_1886 rfl 0 rfl rfl ?_
      refine z_iload (n := 1889) dL_law_1887 rfl 4 rfl ?_
      refine z_iconst (n := 1890) (v := 1) dL_law_1889 rfl (by decide) ?_
      refine z_iadd (n := 1891) dL_law_1890 rfl ?_
      obtain ⟨h_851, hF⟩ := zg_some hF
      refine z_ialdK (n := 1892) ((v4_21 + 1).toNatClampNeg) rfl dL_law_1891 rfl hk_24 (zin_ok h_851) ?_
      refine z_aload_n (n := 1893) dL_law_1892 rfl 3 rfl rfl ?_
      obtain ⟨c_855, t_856, c_852, hF⟩ := zc1_some hF
      obtain ⟨x_853, h_854⟩ := t_856
      dsimp only [zn2] at hF
      obtain ⟨cc, hF, hcc⟩ := zpay_some hF
      refine z_payE hcc ?_
      refine z_cSH (n := 1896) (mc2 := (cc.1 + mE)) (ms2 := (cc.2 + wE)) (st := []) (C_X0_hidden htr c_852) dL_law_1893 rfl (lw_SW q1604 q1605 q104 q1606) hcee_X0_hidden rfl (by decide) rfl (Nat.le_of_ble_eq_true rfl) (Nat.le_of_eq (Nat.add_comm _ _)) (Nat.le_of_eq (Nat.add_comm _ _)) ?_
      refine z_istoreE (n := 1898) (lv' := [(5, .int x_853), (0, .ref a0), (1, .ref o_4), (2, .ref 1860), (3, .ref o_19), (4, .int v4_21)]) dL_law_1896 rfl rfl (by decide) rfl ?_
      refine z_aload_n (n := 1899) dL_law_1898 rfl 3 rfl rfl ?_
      refine z_aload_n (n := 1900) dL_law_1899 rfl 1 rfl rfl ?_
      refine z_iload (n := 1902) dL_law_1900 rfl 5 rfl ?_
      refine z_iconst (n := 1903) (v := 1) dL_law_1902 rfl (by decide) ?_
      refine z_iadd (n := 1904) dL_law_1903 rfl ?_
      obtain ⟨n_857, hk_858, hF⟩ := zka_some hF
      obtain ⟨h_859, hF⟩ := zg_some hF
      refine z_ialdK (n := 1905) ((v4_21 + 1).toNatClampNeg) rfl dL_law_1904 rfl hk_858 (zin_ok h_859) ?_
      obtain ⟨hm_860, hF⟩ := zg_some hF
      obtain ⟨n_861, hk_862, hF⟩ := zka_some hF
      obtain ⟨x_864, I_865, c_863, hF⟩ := zb2_some hF
      refine z_cV (n := 1908) (mc2 := (cc.1 + mE)) (ms2 := (cc.2 + wE)) (st := []) (C_X7_hidden htr (zMok_ok hm_860) c_863) dL_law_1905 rfl (lw_V q2233 q2234 q2235 q131 q2236) hcee_X7_hidden rfl (by decide) hk_862 rfl rfl rfl (Nat.le_of_ble_eq_true rfl) (Nat.le_refl _) (Nat.le_refl _) ?_
      obtain ⟨h_866, e_867, hF⟩ := zlet_ob hF
      refine z_toFI e_867 ?_
      refine z_istoreE (n := 1910) (lv' := [(6, .int x_864), (5, .int x_853), (0, .ref a0), (1, .ref o_4), (2, .ref 1860), (3, .ref o_19), (4, .int v4_21)]) dL_law_1908 rfl rfl (by decide) rfl ?_
      refine z_aload_n (n := 1911) dL_law_1910 rfl 4 rfl rfl ?_
      obtain ⟨hm_868, hF⟩ := zg_some hF
      obtain ⟨n_869, hk_870, hF⟩ := zka_some hF
      obtain ⟨x_872, c_871, hF⟩ := zb1_some hF
      refine z_cV (n := 1914) (mc2 := (cc.1 + mE)) (ms2 := (cc.2 + wE)) (st := []) (C_X7_thrown htr (zMok_ok hm_868) c_871) dL_law_1911 rfl (lw_V q1867 q1868 q1869 q131 q1870) hcee_X7_thrown rfl (by decide) hk_870 rfl rfl rfl (Nat.le_of_ble_eq_true rfl) (Nat.le_refl _) (Nat.le_refl _) ?_
      refine z_iload (n := 1916) dL_law_1914 rfl 1 rfl ?_
      refine z_icmp_eq (n := 1919) (t := 1921) dL_law_1916 rfl (by decide) (fun hc => ?_) (fun hc => ?_)
      · replace hF := (if_pos hc).symm.trans hF
        refine z_iload (n := 1923) dL_law_1921 rfl 1 rfl ?_
        refine z_if_ne (n := 1926) (t := 1938) dL_law_1923 rfl (by decide) (fun hc => ?_) (fun hc => ?_)
        · replace hF := (if_pos hc).symm.trans hF
          refine z_goto (t := 2216) dL_law_1938 (by decide) ?_
          obtain ⟨v4_873, e_874, hF⟩ := zlet_ob hF
          refine z_iincE (n := 2219) (w := 6) (v := v4_873) (lv' := [(4, .int v4_873), (6, .int x_864), (5, .int x_853), (0, .ref a0), (1, .ref o_4), (2, .ref 1860), (3, .ref o_19)]) dL_law_2216 rfl 6 rfl (by decide) e_874 (by decide) rfl ?_
          refine z_goto (t := 23) dL_law_2219 (by decide) ?_
          refine z_sub [3, 4, 5, 6, 0] rfl ?_
          obtain ⟨rfl, rfl⟩ := zpair hF
          refine z_eq (Nat.zero_add _) (Nat.zero_add _) ?_
          exact kl v4_873 h_866 rfl
        · replace hF := (if_neg hc).symm.trans hF
          refine z_aload_n (n := 1927) dL_law_1926 rfl 5 rfl rfl ?_
          refine z_iconst (n := 1928) (v := 0) dL_law_1927 rfl (by decide) ?_
          obtain ⟨n_875, hk_876, hF⟩ := zka_some hF
          obtain ⟨h_877, hF⟩ := zg_some hF
          refine z_laldK (n := 1929) 0 (by decide) dL_law_1928 rfl hk_876 (zin_ok h_877) ?_
          refine z_iload (n := 1931) dL_law_1929 rfl 0 rfl ?_
          refine z_i2l (n := 1932) dL_law_1931 rfl ?_
          refine z_lcmp (n := 1933) dL_law_1932 rfl ?_
          refine z_if_eq (n := 1936) (t := 1938) dL_law_1933 rfl (by decide) (fun hc => ?_) (fun hc => ?_)
          · replace hF := (if_pos hc).symm.trans hF
            refine z_goto (t := 2216) dL_law_1938 (by decide) ?_
            obtain ⟨v4_878, e_879, hF⟩ := zlet_ob hF
            refine z_iincE (n := 2219) (w := 6) (v := v4_878) (lv' := [(4, .int v4_878), (6, .int x_864), (5, .int x_853), (0, .ref a0), (1, .ref o_4), (2, .ref 1860), (3, .ref o_19)]) dL_law_2216 rfl 6 rfl (by decide) e_879 (by decide) rfl ?_
            refine z_goto (t := 23) dL_law_2219 (by decide) ?_
            refine z_sub [3, 4, 5, 6, 0] rfl ?_
            obtain ⟨rfl, rfl⟩ := zpair hF
            refine z_eq (Nat.zero_add _) (Nat.zero_add _) ?_
            exact kl v4_878 h_866 rfl
          · replace hF := (if_neg hc).symm.trans hF
            refine z_iconst (n := 1937) (v := 0) dL_law_1936 rfl (by decide) ?_
            obtain ⟨rfl, rfl⟩ := zpair hF
            exact z_iret dL_law_1937 rfl rfl (kq _ rfl)
      · replace hF := (if_neg hc).symm.trans hF
        refine z_iconst (n := 1920) (v := 0) dL_law_1919 rfl (by decide) ?_
        obtain ⟨rfl, rfl⟩ := zpair hF
        exact z_iret dL_law_1920 rfl rfl (kq _ rfl)
    replace hF := (if_neg ht29).symm.trans hF
    by_cases ht30 : (((hI h_22) a0 v4_21.toNatClampNeg) &&& (63 : Int32)) = 30
    · replace hF := (if_pos ht30).symm.trans hF
      refine z_tableIn (off := 1901) (t := 1941) dL_law_40 (by rw [ht30]; decide) (by rw [ht30]; decide) (by rw [ht30]; rfl) (by decide) ?_
      refine z_aload_n (n := 1942) dL_law_1941 rfl 1 rfl rfl ?_
      refine z_aload_n (n := 1943) dL_law_1942 rfl 0 rfl rfl ?_
      refine z_iload (n := 1945) dL_law_1943 rfl 4 rfl ?_
      refine z_iconst (n := 1946) (v := 1) dL_law_1945 rfl (by decide) ?_
      refine z_iadd (n := 1947) dL_law_1946 rfl ?_
      obtain ⟨h_880, hF⟩ := zg_some hF
      refine z_ialdK (n := 1948) ((v4_21 + 1).toNatClampNeg) rfl dL_law_1947 rfl hk_24 (zin_ok h_880) ?_
      refine z_aload_n (n := 1949) dL_law_1948 rfl 3 rfl rfl ?_
      obtain ⟨c_884, t_885, c_881, hF⟩ := zc1_some hF
      obtain ⟨x_882, h_883⟩ := t_885
      dsimp only [zn2] at hF
      obtain ⟨cc, hF, hcc⟩ := zpay_some hF
      refine z_payE hcc ?_
      refine z_cSH (n := 1952) (mc2 := (cc.1 + mE)) (ms2 := (cc.2 + wE)) (st := []) (C_X0_look htr c_881) dL_law_1949 rfl (lw_SW q1623 q1624 q104 q1625) hcee_X0_look rfl (by decide) rfl (Nat.le_of_ble_eq_true rfl) (Nat.le_of_eq (Nat.add_comm _ _)) (Nat.le_of_eq (Nat.add_comm _ _)) ?_
      refine z_istoreE (n := 1954) (lv' := [(5, .int x_882), (0, .ref a0), (1, .ref o_4), (2, .ref 1860), (3, .ref o_19), (4, .int v4_21)]) dL_law_1952 rfl rfl (by decide) rfl ?_
      refine z_aload_n (n := 1955) dL_law_1954 rfl 3 rfl rfl ?_
      refine z_aload_n (n := 1956) dL_law_1955 rfl 1 rfl rfl ?_
      refine z_iload (n := 1958) dL_law_1956 rfl 5 rfl ?_
      refine z_iconst (n := 1959) (v := 1) dL_law_1958 rfl (by decide) ?_
      refine z_iadd (n := 1960) dL_law_1959 rfl ?_
      obtain ⟨n_886, hk_887, hF⟩ := zka_some hF
      obtain ⟨h_888, hF⟩ := zg_some hF
      refine z_ialdK (n := 1961) ((v4_21 + 1).toNatClampNeg) rfl dL_law_1960 rfl hk_887 (zin_ok h_888) ?_
      obtain ⟨hm_889, hF⟩ := zg_some hF
      obtain ⟨n_890, hk_891, hF⟩ := zka_some hF
      obtain ⟨x_893, I_894, c_892, hF⟩ := zb2_some hF
      refine z_cV (n := 1964) (mc2 := (cc.1 + mE)) (ms2 := (cc.2 + wE)) (st := []) (C_X7_look htr (zMok_ok hm_889) c_892) dL_law_1961 rfl (lw_V q2246 q2247 q2248 q131 q2249) hcee_X7_look rfl (by decide) hk_891 rfl rfl rfl (Nat.le_of_ble_eq_true rfl) (Nat.le_refl _) (Nat.le_refl _) ?_
      obtain ⟨h_895, e_896, hF⟩ := zlet_ob hF
      refine z_toFI e_896 ?_
      refine z_istoreE (n := 1966) (lv' := [(6, .int x_893), (5, .int x_882), (0, .ref a0), (1, .ref o_4), (2, .ref 1860), (3, .ref o_19), (4, .int v4_21)]) dL_law_1964 rfl rfl (by decide) rfl ?_
      refine z_aload_n (n := 1967) dL_law_1966 rfl 4 rfl rfl ?_
      obtain ⟨hm_897, hF⟩ := zg_some hF
      obtain ⟨n_898, hk_899, hF⟩ := zka_some hF
      obtain ⟨x_901, c_900, hF⟩ := zb1_some hF
      refine z_cV (n := 1970) (mc2 := (cc.1 + mE)) (ms2 := (cc.2 + wE)) (st := []) (C_X7_thrown htr (zMok_ok hm_897) c_900) dL_law_1967 rfl (lw_V q1867 q1868 q1869 q131 q1870) hcee_X7_thrown rfl (by decide) hk_899 rfl rfl rfl (Nat.le_of_ble_eq_true rfl) (Nat.le_refl _) (Nat.le_refl _) ?_
      refine z_iload (n := 1972) dL_law_1970 rfl 1 rfl ?_
      refine z_icmp_eq (n := 1975) (t := 1977) dL_law_1972 rfl (by decide) (fun hc => ?_) (fun hc => ?_)
      · replace hF := (if_pos hc).symm.trans hF
        refine z_iload (n := 1979) dL_law_1977 rfl 1 rfl ?_
        refine z_if_ne (n := 1982) (t := 1994) dL_law_1979 rfl (by decide) (fun hc => ?_) (fun hc => ?_)
        · replace hF := (if_pos hc).symm.trans hF
          refine z_goto (t := 2216) dL_law_1994 (by decide) ?_
          obtain ⟨v4_902, e_903, hF⟩ := zlet_ob hF
          refine z_iincE (n := 2219) (w := 6) (v := v4_902) (lv' := [(4, .int v4_902), (6, .int x_893), (5, .int x_882), (0, .ref a0), (1, .ref o_4), (2, .ref 1860), (3, .ref o_19)]) dL_law_2216 rfl 6 rfl (by decide) e_903 (by decide) rfl ?_
          refine z_goto (t := 23) dL_law_2219 (by decide) ?_
          refine z_sub [3, 4, 5, 6, 0] rfl ?_
          obtain ⟨rfl, rfl⟩ := zpair hF
          refine z_eq (Nat.zero_add _) (Nat.zero_add _) ?_
          exact kl v4_902 h_895 rfl
        · replace hF := (if_neg hc).symm.trans hF
          refine z_aload_n (n := 1983) dL_law_1982 rfl 5 rfl rfl ?_
          refine z_iconst (n := 1984) (v := 0) dL_law_1983 rfl (by decide) ?_
          obtain ⟨n_904, hk_905, hF⟩ := zka_some hF
          obtain ⟨h_906, hF⟩ := zg_some hF
          refine z_laldK (n := 1985) 0 (by decide) dL_law_1984 rfl hk_905 (zin_ok h_906) ?_
          refine z_iload (n := 1987) dL_law_1985 rfl 0 rfl ?_
          refine z_i2l (n := 1988) dL_law_1987 rfl ?_
          refine z_lcmp (n := 1989) dL_law_1988 rfl ?_
          refine z_if_eq (n := 1992) (t := 1994) dL_law_1989 rfl (by decide) (fun hc => ?_) (fun hc => ?_)
          · replace hF := (if_pos hc).symm.trans hF
            refine z_goto (t := 2216) dL_law_1994 (by decide) ?_
            obtain ⟨v4_907, e_908, hF⟩ := zlet_ob hF
            refine z_iincE (n := 2219) (w := 6) (v := v4_907) (lv' := [(4, .int v4_907), (6, .int x_893), (5, .int x_882), (0, .ref a0), (1, .ref o_4), (2, .ref 1860), (3, .ref o_19)]) dL_law_2216 rfl 6 rfl (by decide) e_908 (by decide) rfl ?_
            refine z_goto (t := 23) dL_law_2219 (by decide) ?_
            refine z_sub [3, 4, 5, 6, 0] rfl ?_
            obtain ⟨rfl, rfl⟩ := zpair hF
            refine z_eq (Nat.zero_add _) (Nat.zero_add _) ?_
            exact kl v4_907 h_895 rfl
          · replace hF := (if_neg hc).symm.trans hF
            refine z_iconst (n := 1993) (v := 0) dL_law_1992 rfl (by decide) ?_
            obtain ⟨rfl, rfl⟩ := zpair hF
            exact z_iret dL_law_1993 rfl rfl (kq _ rfl)
      · replace hF := (if_neg hc).symm.trans hF
        refine z_iconst (n := 1976) (v := 0) dL_law_1975 rfl (by decide) ?_
        obtain ⟨rfl, rfl⟩ := zpair hF
        exact z_iret dL_law_1976 rfl rfl (kq _ rfl)
    replace hF := (if_neg ht30).symm.trans hF
    by_cases ht31 : (((hI h_22) a0 v4_21.toNatClampNeg) &&& (63 : Int32)) = 31
    · replace hF := (if_pos ht31).symm.trans hF
      refine z_tableIn (off := 1957) (t := 1997) dL_law_40 (by rw [ht31]; decide) (by rw [ht31]; decide) (by rw [ht31]; rfl) (by decide) ?_
      refine z_aload_n (n := 1998) dL_law_1997 rfl 1 rfl rfl ?_
      obtain ⟨n_909, hk_910, hF⟩ := zka_some hF
      obtain ⟨I_912, c_911, hF⟩ := zb1_some hF
      refine z_cV (n := 2001) (mc2 := (cc.1 + mE)) (ms2 := (cc.2 + wE)) (st := []) (C_X1_forget htr c_911) dL_law_1998 rfl (lw_V q928 q929 q930 q105 q931) hcee_X1_forget rfl (by decide) hk_910 rfl rfl rfl (Nat.le_of_ble_eq_true rfl) (Nat.le_refl _) (Nat.le_refl _) ?_
      obtain ⟨h_913, e_914, hF⟩ := zlet_ob hF
      refine z_toFI e_914 ?_
      refine z_aload_n (n := 2002) dL_law_2001 rfl 2 rfl rfl ?_
      obtain ⟨hm_915, hF⟩ := zg_some hF
      obtain ⟨n_916, hk_917, hF⟩ := zka_some hF
      obtain ⟨I_919, c_918, hF⟩ := zb1_some hF
      refine z_cV (n := 2005) (mc2 := (cc.1 + mE)) (ms2 := (cc.2 + wE)) (st := []) (C_X7_forget htr (zMok_ok hm_915) c_918) dL_law_2002 rfl (lw_V q2254 q2255 q2256 q131 q2257) hcee_X7_forget rfl (by decide) hk_917 rfl rfl rfl (Nat.le_of_ble_eq_true rfl) (Nat.le_refl _) (Nat.le_refl _) ?_
      obtain ⟨h_920, e_921, hF⟩ := zlet_ob hF
      refine z_toFI e_921 ?_
      refine z_goto (t := 2216) dL_law_2005 (by decide) ?_
      obtain ⟨v4_922, e_923, hF⟩ := zlet_ob hF
      refine z_iincE (n := 2219) (w := 6) (v := v4_922) (lv' := [(4, .int v4_922), (0, .ref a0), (1, .ref o_4), (2, .ref 1860), (3, .ref o_19)]) dL_law_2216 rfl 4 rfl (by decide) e_923 (by decide) rfl ?_
      refine z_goto (t := 23) dL_law_2219 (by decide) ?_
      refine z_sub [1, 2, 3, 4, 0] rfl ?_
      obtain ⟨rfl, rfl⟩ := zpair hF
      refine z_eq (Nat.zero_add _) (Nat.zero_add _) ?_
      exact kl v4_922 h_920 rfl
    replace hF := (if_neg ht31).symm.trans hF
    by_cases ht32 : (((hI h_22) a0 v4_21.toNatClampNeg) &&& (63 : Int32)) = 32
    · replace hF := (if_pos ht32).symm.trans hF
      refine z_tableIn (off := 1968) (t := 2008) dL_law_40 (by rw [ht32]; decide) (by rw [ht32]; decide) (by rw [ht32]; rfl) (by decide) ?_
      refine z_aload_n (n := 2009) dL_law_2008 rfl 1 rfl rfl ?_
      refine z_aload_n (n := 2010) dL_law_2009 rfl 0 rfl rfl ?_
      refine z_iload (n := 2012) dL_law_2010 rfl 4 rfl ?_
      refine z_iconst (n := 2013) (v := 1) dL_law_2012 rfl (by decide) ?_
      refine z_iadd (n := 2014) dL_law_2013 rfl ?_
      obtain ⟨h_924, hF⟩ := zg_some hF
      refine z_ialdK (n := 2015) ((v4_21 + 1).toNatClampNeg) rfl dL_law_2014 rfl hk_24 (zin_ok h_924) ?_
      refine z_aload_n (n := 2016) dL_law_2015 rfl 0 rfl rfl ?_
      refine z_iload (n := 2018) dL_law_2016 rfl 4 rfl ?_
      refine z_iconst (n := 2019) (v := 2) dL_law_2018 rfl (by decide) ?_
      refine z_iadd (n := 2020) dL_law_2019 rfl ?_
      obtain ⟨h_925, hF⟩ := zg_some hF
      refine z_ialdK (n := 2021) ((v4_21 + 2).toNatClampNeg) rfl dL_law_2020 rfl hk_24 (zin_ok h_925) ?_
      refine z_aload_n (n := 2022) dL_law_2021 rfl 0 rfl rfl ?_
      refine z_iload (n := 2024) dL_law_2022 rfl 4 rfl ?_
      refine z_iconst (n := 2025) (v := 3) dL_law_2024 rfl (by decide) ?_
      refine z_iadd (n := 2026) dL_law_2025 rfl ?_
      obtain ⟨h_926, hF⟩ := zg_some hF
      refine z_ialdK (n := 2027) ((v4_21 + 3).toNatClampNeg) rfl dL_law_2026 rfl hk_24 (zin_ok h_926) ?_
      refine z_aload_n (n := 2028) dL_law_2027 rfl 0 rfl rfl ?_
      refine z_iload (n := 2030) dL_law_2028 rfl 4 rfl ?_
      refine z_iconst (n := 2031) (v := 4) dL_law_2030 rfl (by decide) ?_
      refine z_iadd (n := 2032) dL_law_2031 rfl ?_
      obtain ⟨h_927, hF⟩ := zg_some hF
      refine z_ialdK (n := 2033) ((v4_21 + 4).toNatClampNeg) rfl dL_law_2032 rfl hk_24 (zin_ok h_927) ?_
      refine z_aload_n (n := 2034) dL_law_2033 rfl 0 rfl rfl ?_
      refine z_iload (n := 2036) dL_law_2034 rfl 4 rfl ?_
      refine z_iconst (n := 2037) (v := 5) dL_law_2036 rfl (by decide) ?_
      refine z_iadd (n := 2038) dL_law_2037 rfl ?_
      obtain ⟨h_928, hF⟩ := zg_some hF
      refine z_ialdK (n := 2039) ((v4_21 + 5).toNatClampNeg) rfl dL_law_2038 rfl hk_24 (zin_ok h_928) ?_
      refine z_aload_n (n := 2040) dL_law_2039 rfl 3 rfl rfl ?_
      obtain ⟨c_932, t_933, c_929, hF⟩ := zc1_some hF
      obtain ⟨x_930, h_931⟩ := t_933
      dsimp only [zn2] at hF
      obtain ⟨cc, hF, hcc⟩ := zpay_some hF
      refine z_payE hcc ?_
      refine z_cSH (n := 2043) (mc2 := (cc.1 + mE)) (ms2 := (cc.2 + wE)) (st := []) (C_X0_game htr c_929) dL_law_2040 rfl (lw_SW q1635 q1636 q104 q1637) hcee_X0_game rfl (by decide) rfl (Nat.le_of_ble_eq_true rfl) (Nat.le_of_eq (Nat.add_comm _ _)) (Nat.le_of_eq (Nat.add_comm _ _)) ?_
      refine z_istoreE (n := 2045) (lv' := [(5, .int x_930), (0, .ref a0), (1, .ref o_4), (2, .ref 1860), (3, .ref o_19), (4, .int v4_21)]) dL_law_2043 rfl rfl (by decide) rfl ?_
      refine z_aload_n (n := 2046) dL_law_2045 rfl 3 rfl rfl ?_
      refine z_aload_n (n := 2047) dL_law_2046 rfl 1 rfl rfl ?_
      refine z_iload (n := 2049) dL_law_2047 rfl 5 rfl ?_
      refine z_iconst (n := 2050) (v := 1) dL_law_2049 rfl (by decide) ?_
      refine z_iadd (n := 2051) dL_law_2050 rfl ?_
      obtain ⟨n_934, hk_935, hF⟩ := zka_some hF
      obtain ⟨h_936, hF⟩ := zg_some hF
      refine z_ialdK (n := 2052) ((v4_21 + 1).toNatClampNeg) rfl dL_law_2051 rfl hk_935 (zin_ok h_936) ?_
      refine z_aload_n (n := 2053) dL_law_2052 rfl 1 rfl rfl ?_
      refine z_iload (n := 2055) dL_law_2053 rfl 5 rfl ?_
      refine z_iconst (n := 2056) (v := 2) dL_law_2055 rfl (by decide) ?_
      refine z_iadd (n := 2057) dL_law_2056 rfl ?_
      obtain ⟨h_937, hF⟩ := zg_some hF
      refine z_ialdK (n := 2058) ((v4_21 + 2).toNatClampNeg) rfl dL_law_2057 rfl hk_935 (zin_ok h_937) ?_
      refine z_aload_n (n := 2059) dL_law_2058 rfl 1 rfl rfl ?_
      refine z_iload (n := 2061) dL_law_2059 rfl 5 rfl ?_
      refine z_iconst (n := 2062) (v := 3) dL_law_2061 rfl (by decide) ?_
      refine z_iadd (n := 2063) dL_law_2062 rfl ?_
      obtain ⟨h_938, hF⟩ := zg_some hF
      refine z_ialdK (n := 2064) ((v4_21 + 3).toNatClampNeg) rfl dL_law_2063 rfl hk_935 (zin_ok h_938) ?_
      refine z_aload_n (n := 2065) dL_law_2064 rfl 1 rfl rfl ?_
      refine z_iload (n := 2067) dL_law_2065 rfl 5 rfl ?_
      refine z_iconst (n := 2068) (v := 4) dL_law_2067 rfl (by decide) ?_
      refine z_iadd (n := 2069) dL_law_2068 rfl ?_
      obtain ⟨h_939, hF⟩ := zg_some hF
      refine z_ialdK (n := 2070) ((v4_21 + 4).toNatClampNeg) rfl dL_law_2069 rfl hk_935 (zin_ok h_939) ?_
      refine z_aload_n (n := 2071) dL_law_2070 rfl 1 rfl rfl ?_
      refine z_iload (n := 2073) dL_law_2071 rfl 5 rfl ?_
      refine z_iconst (n := 2074) (v := 5) dL_law_2073 rfl (by decide) ?_
      refine z_iadd (n := 2075) dL_law_2074 rfl ?_
      obtain ⟨h_940, hF⟩ := zg_some hF
      refine z_ialdK (n := 2076) ((v4_21 + 5).toNatClampNeg) rfl dL_law_2075 rfl hk_935 (zin_ok h_940) ?_
      obtain ⟨hm_941, hF⟩ := zg_some hF
      obtain ⟨n_942, hk_943, hF⟩ := zka_some hF
      obtain ⟨x_945, I_946, c_944, hF⟩ := zb2_some hF
      refine z_cV (n := 2079) (mc2 := (cc.1 + mE)) (ms2 := (cc.2 + wE)) (st := []) (C_X7_game htr (zMok_ok hm_941) c_944) dL_law_2076 rfl (lw_V q2258 q2259 q2260 q131 q2261) hcee_X7_game rfl (by decide) hk_943 rfl rfl rfl (Nat.le_of_ble_eq_true rfl) (Nat.le_refl _) (Nat.le_refl _) ?_
      obtain ⟨h_947, e_948, hF⟩ := zlet_ob hF
      refine z_toFI e_948 ?_
      refine z_istoreE (n := 2081) (lv' := [(6, .int x_945), (5, .int x_930), (0, .ref a0), (1, .ref o_4), (2, .ref 1860), (3, .ref o_19), (4, .int v4_21)]) dL_law_2079 rfl rfl (by decide) rfl ?_
      refine z_aload_n (n := 2082) dL_law_2081 rfl 4 rfl rfl ?_
      obtain ⟨hm_949, hF⟩ := zg_some hF
      obtain ⟨n_950, hk_951, hF⟩ := zka_some hF
      obtain ⟨x_953, c_952, hF⟩ := zb1_some hF
      refine z_cV (n := 2085) (mc2 := (cc.1 + mE)) (ms2 := (cc.2 + wE)) (st := []) (C_X7_thrown htr (zMok_ok hm_949) c_952) dL_law_2082 rfl (lw_V q1867 q1868 q1869 q131 q1870) hcee_X7_thrown rfl (by decide) hk_951 rfl rfl rfl (Nat.le_of_ble_eq_true rfl) (Nat.le_refl _) (Nat.le_refl _) ?_
      refine z_iload (n := 2087) dL_law_2085 rfl 1 rfl ?_
      refine z_icmp_eq (n := 2090) (t := 2092) dL_law_2087 rfl (by decide) (fun hc => ?_) (fun hc => ?_)
      · replace hF := (if_pos hc).symm.trans hF
        refine z_iload (n := 2094) dL_law_2092 rfl 1 rfl ?_
        refine z_if_ne (n := 2097) (t := 2109) dL_law_2094 rfl (by decide) (fun hc => ?_) (fun hc => ?_)
        · replace hF := (if_pos hc).symm.trans hF
          refine z_goto (t := 2216) dL_law_2109 (by decide) ?_
          obtain ⟨v4_954, e_955, hF⟩ := zlet_ob hF
          refine z_iincE (n := 2219) (w := 6) (v := v4_954) (lv' := [(4, .int v4_954), (6, .int x_945), (5, .int x_930), (0, .ref a0), (1, .ref o_4), (2, .ref 1860), (3, .ref o_19)]) dL_law_2216 rfl 6 rfl (by decide) e_955 (by decide) rfl ?_
          refine z_goto (t := 23) dL_law_2219 (by decide) ?_
          refine z_sub [3, 4, 5, 6, 0] rfl ?_
          obtain ⟨rfl, rfl⟩ := zpair hF
          refine z_eq (Nat.zero_add _) (Nat.zero_add _) ?_
          exact kl v4_954 h_947 rfl
        · replace hF := (if_neg hc).symm.trans hF
          refine z_aload_n (n := 2098) dL_law_2097 rfl 5 rfl rfl ?_
          refine z_iconst (n := 2099) (v := 0) dL_law_2098 rfl (by decide) ?_
          obtain ⟨n_956, hk_957, hF⟩ := zka_some hF
          obtain ⟨h_958, hF⟩ := zg_some hF
          refine z_laldK (n := 2100) 0 (by decide) dL_law_2099 rfl hk_957 (zin_ok h_958) ?_
          refine z_iload (n := 2102) dL_law_2100 rfl 0 rfl ?_
          refine z_i2l (n := 2103) dL_law_2102 rfl ?_
          refine z_lcmp (n := 2104) dL_law_2103 rfl ?_
          refine z_if_eq (n := 2107) (t := 2109) dL_law_2104 rfl (by decide) (fun hc => ?_) (fun hc => ?_)
          · replace hF := (if_pos hc).symm.trans hF
            refine z_goto (t := 2216) dL_law_2109 (by decide) ?_
            obtain ⟨v4_959, e_960, hF⟩ := zlet_ob hF
            refine z_iincE (n := 2219) (w := 6) (v := v4_959) (lv' := [(4, .int v4_959), (6, .int x_945), (5, .int x_930), (0, .ref a0), (1, .ref o_4), (2, .ref 1860), (3, .ref o_19)]) dL_law_2216 rfl 6 rfl (by decide) e_960 (by decide) rfl ?_
            refine z_goto (t := 23) dL_law_2219 (by decide) ?_
            refine z_sub [3, 4, 5, 6, 0] rfl ?_
            obtain ⟨rfl, rfl⟩ := zpair hF
            refine z_eq (Nat.zero_add _) (Nat.zero_add _) ?_
            exact kl v4_959 h_947 rfl
          · replace hF := (if_neg hc).symm.trans hF
            refine z_iconst (n := 2108) (v := 0) dL_law_2107 rfl (by decide) ?_
            obtain ⟨rfl, rfl⟩ := zpair hF
            exact z_iret dL_law_2108 rfl rfl (kq _ rfl)
      · replace hF := (if_neg hc).symm.trans hF
        refine z_iconst (n := 2091) (v := 0) dL_law_2090 rfl (by decide) ?_
        obtain ⟨rfl, rfl⟩ := zpair hF
        exact z_iret dL_law_2091 rfl rfl (kq _ rfl)
    replace hF := (if_neg ht32).symm.trans hF
    by_cases ht33 : (((hI h_22) a0 v4_21.toNatClampNeg) &&& (63 : Int32)) = 33
    · replace hF := (if_pos ht33).symm.trans hF
      refine z_tableIn (off := 2072) (t := 2112) dL_law_40 (by rw [ht33]; decide) (by rw [ht33]; decide) (by rw [ht33]; rfl) (by decide) ?_
      refine z_aload_n (n := 2113) dL_law_2112 rfl 1 rfl rfl ?_
      refine z_aload_n (n := 2114) dL_law_2113 rfl 0 rfl rfl ?_
      refine z_iload (n := 2116) dL_law_2114 rfl 4 rfl ?_
      refine z_iconst (n := 2117) (v := 1) dL_law_2116 rfl (by decide) ?_
      refine z_iadd (n := 2118) dL_law_2117 rfl ?_
      obtain ⟨h_961, hF⟩ := zg_some hF
      refine z_ialdK (n := 2119) ((v4_21 + 1).toNatClampNeg) rfl dL_law_2118 rfl hk_24 (zin_ok h_961) ?_
      refine z_aload_n (n := 2120) dL_law_2119 rfl 0 rfl rfl ?_
      refine z_iload (n := 2122) dL_law_2120 rfl 4 rfl ?_
      refine z_iconst (n := 2123) (v := 2) dL_law_2122 rfl (by decide) ?_
      refine z_iadd (n := 2124) dL_law_2123 rfl ?_
      obtain ⟨h_962, hF⟩ := zg_some hF
      refine z_ialdK (n := 2125) ((v4_21 + 2).toNatClampNeg) rfl dL_law_2124 rfl hk_24 (zin_ok h_962) ?_
      refine z_aload_n (n := 2126) dL_law_2125 rfl 0 rfl rfl ?_
      refine z_iload (n := 2128) dL_law_2126 rfl 4 rfl ?_
      refine z_iconst (n := 2129) (v := 3) dL_law_2128 rfl (by decide) ?_
      refine z_iadd (n := 2130) dL_law_2129 rfl ?_
      obtain ⟨h_963, hF⟩ := zg_some hF
      refine z_ialdK (n := 2131) ((v4_21 + 3).toNatClampNeg) rfl dL_law_2130 rfl hk_24 (zin_ok h_963) ?_
      refine z_aload_n (n := 2132) dL_law_2131 rfl 3 rfl rfl ?_
      obtain ⟨c_967, t_968, c_964, hF⟩ := zc1_some hF
      obtain ⟨x_965, h_966⟩ := t_968
      dsimp only [zn2] at hF
      obtain ⟨cc, hF, hcc⟩ := zpay_some hF
      refine z_payE hcc ?_
      refine z_cSH (n := 2135) (mc2 := (cc.1 + mE)) (ms2 := (cc.2 + wE)) (st := []) (C_X0_winter htr c_964) dL_law_2132 rfl (lw_SW q1646 q1647 q104 q1648) hcee_X0_winter rfl (by decide) rfl (Nat.le_of_ble_eq_true rfl) (Nat.le_of_eq (Nat.add_comm _ _)) (Nat.le_of_eq (Nat.add_comm _ _)) ?_
      refine z_istoreE (n := 2137) (lv' := [(5, .int x_965), (0, .ref a0), (1, .ref o_4), (2, .ref 1860), (3, .ref o_19), (4, .int v4_21)]) dL_law_2135 rfl rfl (by decide) rfl ?_
      refine z_aload_n (n := 2138) dL_law_2137 rfl 3 rfl rfl ?_
      refine z_aload_n (n := 2139) dL_law_2138 rfl 1 rfl rfl ?_
      refine z_iload (n := 2141) dL_law_2139 rfl 5 rfl ?_
      refine z_iconst (n := 2142) (v := 1) dL_law_2141 rfl (by decide) ?_
      refine z_iadd (n := 2143) dL_law_2142 rfl ?_
      obtain ⟨n_969, hk_970, hF⟩ := zka_some hF
      obtain ⟨h_971, hF⟩ := zg_some hF
      refine z_ialdK (n := 2144) ((v4_21 + 1).toNatClampNeg) rfl dL_law_2143 rfl hk_970 (zin_ok h_971) ?_
      refine z_aload_n (n := 2145) dL_law_2144 rfl 1 rfl rfl ?_
      refine z_iload (n := 2147) dL_law_2145 rfl 5 rfl ?_
      refine z_iconst (n := 2148) (v := 2) dL_law_2147 rfl (by decide) ?_
      refine z_iadd (n := 2149) dL_law_2148 rfl ?_
      obtain ⟨h_972, hF⟩ := zg_some hF
      refine z_ialdK (n := 2150) ((v4_21 + 2).toNatClampNeg) rfl dL_law_2149 rfl hk_970 (zin_ok h_972) ?_
      refine z_aload_n (n := 2151) dL_law_2150 rfl 1 rfl rfl ?_
      refine z_iload (n := 2153) dL_law_2151 rfl 5 rfl ?_
      refine z_iconst (n := 2154) (v := 3) dL_law_2153 rfl (by decide) ?_
      refine z_iadd (n := 2155) dL_law_2154 rfl ?_
      obtain ⟨h_973, hF⟩ := zg_some hF
      refine z_ialdK (n := 2156) ((v4_21 + 3).toNatClampNeg) rfl dL_law_2155 rfl hk_970 (zin_ok h_973) ?_
      obtain ⟨hm_974, hF⟩ := zg_some hF
      obtain ⟨n_975, hk_976, hF⟩ := zka_some hF
      obtain ⟨x_978, I_979, c_977, hF⟩ := zb2_some hF
      refine z_cV (n := 2159) (mc2 := (cc.1 + mE)) (ms2 := (cc.2 + wE)) (st := []) (C_X7_winter htr (zMok_ok hm_974) c_977) dL_law_2156 rfl (lw_V q2266 q2267 q2268 q131 q2269) hcee_X7_winter rfl (by decide) hk_976 rfl rfl rfl (Nat.le_of_ble_eq_true rfl) (Nat.le_refl _) (Nat.le_refl _) ?_
      obtain ⟨h_980, e_981, hF⟩ := zlet_ob hF
      refine z_toFI e_981 ?_
      refine z_istoreE (n := 2161) (lv' := [(6, .int x_978), (5, .int x_965), (0, .ref a0), (1, .ref o_4), (2, .ref 1860), (3, .ref o_19), (4, .int v4_21)]) dL_law_2159 rfl rfl (by decide) rfl ?_
      refine z_aload_n (n := 2162) dL_law_2161 rfl 4 rfl rfl ?_
      obtain ⟨hm_982, hF⟩ := zg_some hF
      obtain ⟨n_983, hk_984, hF⟩ := zka_some hF
      obtain ⟨x_986, c_985, hF⟩ := zb1_some hF
      refine z_cV (n := 2165) (mc2 := (cc.1 + mE)) (ms2 := (cc.2 + wE)) (st := []) (C_X7_thrown htr (zMok_ok hm_982) c_985) dL_law_2162 rfl (lw_V q1867 q1868 q1869 q131 q1870) hcee_X7_thrown rfl (by decide) hk_984 rfl rfl rfl (Nat.le_of_ble_eq_true rfl) (Nat.le_refl _) (Nat.le_refl _) ?_
      refine z_iload (n := 2167) dL_law_2165 rfl 1 rfl ?_
      refine z_icmp_eq (n := 2170) (t := 2172) dL_law_2167 rfl (by decide) (fun hc => ?_) (fun hc => ?_)
      · replace hF := (if_pos hc).symm.trans hF
        refine z_iload (n := 2174) dL_law_2172 rfl 1 rfl ?_
        refine z_if_ne (n := 2177) (t := 2189) dL_law_2174 rfl (by decide) (fun hc => ?_) (fun hc => ?_)
        · replace hF := (if_pos hc).symm.trans hF
          refine z_goto (t := 2216) dL_law_2189 (by decide) ?_
          obtain ⟨v4_987, e_988, hF⟩ := zlet_ob hF
          refine z_iincE (n := 2219) (w := 6) (v := v4_987) (lv' := [(4, .int v4_987), (6, .int x_978), (5, .int x_965), (0, .ref a0), (1, .ref o_4), (2, .ref 1860), (3, .ref o_19)]) dL_law_2216 rfl 6 rfl (by decide) e_988 (by decide) rfl ?_
          refine z_goto (t := 23) dL_law_2219 (by decide) ?_
          refine z_sub [3, 4, 5, 6, 0] rfl ?_
          obtain ⟨rfl, rfl⟩ := zpair hF
          refine z_eq (Nat.zero_add _) (Nat.zero_add _) ?_
          exact kl v4_987 h_980 rfl
        · replace hF := (if_neg hc).symm.trans hF
          refine z_aload_n (n := 2178) dL_law_2177 rfl 5 rfl rfl ?_
          refine z_iconst (n := 2179) (v := 0) dL_law_2178 rfl (by decide) ?_
          obtain ⟨n_989, hk_990, hF⟩ := zka_some hF
          obtain ⟨h_991, hF⟩ := zg_some hF
          refine z_laldK (n := 2180) 0 (by decide) dL_law_2179 rfl hk_990 (zin_ok h_991) ?_
          refine z_iload (n := 2182) dL_law_2180 rfl 0 rfl ?_
          refine z_i2l (n := 2183) dL_law_2182 rfl ?_
          refine z_lcmp (n := 2184) dL_law_2183 rfl ?_
          refine z_if_eq (n := 2187) (t := 2189) dL_law_2184 rfl (by decide) (fun hc => ?_) (fun hc => ?_)
          · replace hF := (if_pos hc).symm.trans hF
            refine z_goto (t := 2216) dL_law_2189 (by decide) ?_
            obtain ⟨v4_992, e_993, hF⟩ := zlet_ob hF
            refine z_iincE (n := 2219) (w := 6) (v := v4_992) (lv' := [(4, .int v4_992), (6, .int x_978), (5, .int x_965), (0, .ref a0), (1, .ref o_4), (2, .ref 1860), (3, .ref o_19)]) dL_law_2216 rfl 6 rfl (by decide) e_993 (by decide) rfl ?_
            refine z_goto (t := 23) dL_law_2219 (by decide) ?_
            refine z_sub [3, 4, 5, 6, 0] rfl ?_
            obtain ⟨rfl, rfl⟩ := zpair hF
            refine z_eq (Nat.zero_add _) (Nat.zero_add _) ?_
            exact kl v4_992 h_980 rfl
          · replace hF := (if_neg hc).symm.trans hF
            refine z_iconst (n := 2188) (v := 0) dL_law_2187 rfl (by decide) ?_
            obtain ⟨rfl, rfl⟩ := zpair hF
            exact z_iret dL_law_2188 rfl rfl (kq _ rfl)
      · replace hF := (if_neg hc).symm.trans hF
        refine z_iconst (n := 2171) (v := 0) dL_law_2170 rfl (by decide) ?_
        obtain ⟨rfl, rfl⟩ := zpair hF
        exact z_iret dL_law_2171 rfl rfl (kq _ rfl)
    replace hF := (if_neg ht33).symm.trans hF
    by_cases ht34 : (((hI h_22) a0 v4_21.toNatClampNeg) &&& (63 : Int32)) = 34
    · replace hF := (if_pos ht34).symm.trans hF
      refine z_tableIn (off := 2152) (t := 2192) dL_law_40 (by rw [ht34]; decide) (by rw [ht34]; decide) (by rw [ht34]; rfl) (by decide) ?_
      refine z_aload_n (n := 2193) dL_law_2192 rfl 1 rfl rfl ?_
      obtain ⟨n_994, hk_995, hF⟩ := zka_some hF
      obtain ⟨I_997, c_996, hF⟩ := zb1_some hF
      refine z_cV (n := 2196) (mc2 := (cc.1 + mE)) (ms2 := (cc.2 + wE)) (st := []) (C_X1_image htr c_996) dL_law_2193 rfl (lw_V q932 q933 q934 q105 q935) hcee_X1_image rfl (by decide) hk_995 rfl rfl rfl (Nat.le_of_ble_eq_true rfl) (Nat.le_refl _) (Nat.le_refl _) ?_
      obtain ⟨h_998, e_999, hF⟩ := zlet_ob hF
      refine z_toFI e_999 ?_
      refine z_aload_n (n := 2197) dL_law_2196 rfl 2 rfl rfl ?_
      obtain ⟨hm_1000, hF⟩ := zg_some hF
      obtain ⟨n_1001, hk_1002, hF⟩ := zka_some hF
      obtain ⟨I_1004, c_1003, hF⟩ := zb1_some hF
      refine z_cV (n := 2200) (mc2 := (cc.1 + mE)) (ms2 := (cc.2 + wE)) (st := []) (C_X7_image htr (zMok_ok hm_1000) c_1003) dL_law_2197 rfl (lw_V q2279 q2280 q2281 q131 q2282) hcee_X7_image rfl (by decide) hk_1002 rfl rfl rfl (Nat.le_of_ble_eq_true rfl) (Nat.le_refl _) (Nat.le_refl _) ?_
      obtain ⟨h_1005, e_1006, hF⟩ := zlet_ob hF
      refine z_toFI e_1006 ?_
      refine z_goto (t := 2216) dL_law_2200 (by decide) ?_
      obtain ⟨v4_1007, e_1008, hF⟩ := zlet_ob hF
      refine z_iincE (n := 2219) (w := 6) (v := v4_1007) (lv' := [(4, .int v4_1007), (0, .ref a0), (1, .ref o_4), (2, .ref 1860), (3, .ref o_19)]) dL_law_2216 rfl 4 rfl (by decide) e_1008 (by decide) rfl ?_
      refine z_goto (t := 23) dL_law_2219 (by decide) ?_
      refine z_sub [1, 2, 3, 4, 0] rfl ?_
      obtain ⟨rfl, rfl⟩ := zpair hF
      refine z_eq (Nat.zero_add _) (Nat.zero_add _) ?_
      exact kl v4_1007 h_1005 rfl
    replace hF := (if_neg ht34).symm.trans hF
    by_cases ht35 : (((hI h_22) a0 v4_21.toNatClampNeg) &&& (63 : Int32)) = 35
    · replace hF := (if_pos ht35).symm.trans hF
      refine z_tableIn (off := 2163) (t := 2203) dL_law_40 (by rw [ht35]; decide) (by rw [ht35]; decide) (by rw [ht35]; rfl) (by decide) ?_
      refine z_aload_n (n := 2204) dL_law_2203 rfl 1 rfl rfl ?_
      obtain ⟨n_1009, hk_1010, hF⟩ := zka_some hF
      obtain ⟨x_1012, I_1013, c_1011, hF⟩ := zb2_some hF
      refine z_cV (n := 2207) (mc2 := (cc.1 + mE)) (ms2 := (cc.2 + wE)) (st := []) (C_X1_restore htr c_1011) dL_law_2204 rfl (lw_V q941 q942 q943 q105 q944) hcee_X1_restore rfl (by decide) hk_1010 rfl rfl rfl (Nat.le_of_ble_eq_true rfl) (Nat.le_refl _) (Nat.le_refl _) ?_
      obtain ⟨h_1014, e_1015, hF⟩ := zlet_ob hF
      refine z_toFI e_1015 ?_
      refine z_aload_n (n := 2208) dL_law_2207 rfl 2 rfl rfl ?_
      obtain ⟨hm_1016, hF⟩ := zg_some hF
      obtain ⟨n_1017, hk_1018, hF⟩ := zka_some hF
      obtain ⟨x_1020, I_1021, c_1019, hF⟩ := zb2_some hF
      refine z_cV (n := 2211) (mc2 := (cc.1 + mE)) (ms2 := (cc.2 + wE)) (st := [.int x_1012]) (C_X7_restore htr (zMok_ok hm_1016) c_1019) dL_law_2208 rfl (lw_V q2286 q2287 q2288 q131 q2289) hcee_X7_restore rfl (by decide) hk_1018 rfl rfl rfl (Nat.le_of_ble_eq_true rfl) (Nat.le_refl _) (Nat.le_refl _) ?_
      obtain ⟨h_1022, e_1023, hF⟩ := zlet_ob hF
      refine z_toFI e_1023 ?_
      refine z_icmp_eq (n := 2214) (t := 2216) dL_law_2211 rfl (by decide) (fun hc => ?_) (fun hc => ?_)
      · replace hF := (if_pos hc).symm.trans hF
        obtain ⟨v4_1024, e_1025, hF⟩ := zlet_ob hF
        refine z_iincE (n := 2219) (w := 6) (v := v4_1024) (lv' := [(4, .int v4_1024), (0, .ref a0), (1, .ref o_4), (2, .ref 1860), (3, .ref o_19)]) dL_law_2216 rfl 4 rfl (by decide) e_1025 (by decide) rfl ?_
        refine z_goto (t := 23) dL_law_2219 (by decide) ?_
        refine z_sub [1, 2, 3, 4, 0] rfl ?_
        obtain ⟨rfl, rfl⟩ := zpair hF
        refine z_eq (Nat.zero_add _) (Nat.zero_add _) ?_
        exact kl v4_1024 h_1022 rfl
      · replace hF := (if_neg hc).symm.trans hF
        refine z_iconst (n := 2215) (v := 0) dL_law_2214 rfl (by decide) ?_
        obtain ⟨rfl, rfl⟩ := zpair hF
        exact z_iret dL_law_2215 rfl rfl (kq _ rfl)
    replace hF := (if_neg ht35).symm.trans hF
    refine z_tableOut (t := 2216) dL_law_40 (by have := lv_neT (a := 0) ht0 (by decide); have := lv_neT (a := 1) ht1 (by decide); have := lv_neT (a := 2) ht2 (by decide); have := lv_neT (a := 3) ht3 (by decide); have := lv_neT (a := 4) ht4 (by decide); have := lv_neT (a := 5) ht5 (by decide); have := lv_neT (a := 6) ht6 (by decide); have := lv_neT (a := 7) ht7 (by decide); have := lv_neT (a := 8) ht8 (by decide); have := lv_neT (a := 9) ht9 (by decide); have := lv_neT (a := 10) ht10 (by decide); have := lv_neT (a := 11) ht11 (by decide); have := lv_neT (a := 12) ht12 (by decide); have := lv_neT (a := 13) ht13 (by decide); have := lv_neT (a := 14) ht14 (by decide); have := lv_neT (a := 15) ht15 (by decide); have := lv_neT (a := 16) ht16 (by decide); have := lv_neT (a := 17) ht17 (by decide); have := lv_neT (a := 18) ht18 (by decide); have := lv_neT (a := 19) ht19 (by decide); have := lv_neT (a := 20) ht20 (by decide); have := lv_neT (a := 21) ht21 (by decide); have := lv_neT (a := 22) ht22 (by decide); have := lv_neT (a := 23) ht23 (by decide); have := lv_neT (a := 24) ht24 (by decide); have := lv_neT (a := 25) ht25 (by decide); have := lv_neT (a := 26) ht26 (by decide); have := lv_neT (a := 27) ht27 (by decide); have := lv_neT (a := 28) ht28 (by decide); have := lv_neT (a := 29) ht29 (by decide); have := lv_neT (a := 30) ht30 (by decide); have := lv_neT (a := 31) ht31 (by decide); have := lv_neT (a := 32) ht32 (by decide); have := lv_neT (a := 33) ht33 (by decide); have := lv_neT (a := 34) ht34 (by decide); have := lv_neT (a := 35) ht35 (by decide); omega) (by decide) ?_
    obtain ⟨v4_1026, e_1027, hF⟩ := zlet_ob hF
    refine z_iincE (n := 2219) (w := 6) (v := v4_1026) (lv' := [(4, .int v4_1026), (0, .ref a0), (1, .ref o_4), (2, .ref 1860), (3, .ref o_19)]) dL_law_2216 rfl 4 rfl (by decide) e_1027 (by decide) rfl ?_
    refine z_goto (t := 23) dL_law_2219 (by decide) ?_
    refine z_sub [1, 2, 3, 4, 0] rfl ?_
    obtain ⟨rfl, rfl⟩ := zpair hF
    refine z_eq (Nat.zero_add _) (Nat.zero_add _) ?_
    exact kl v4_1026 h_22 rfl
set_option maxHeartbeats 1000000 in
theorem W_L_law {l : Launch} {G : zGt} (htr : l.stackTraces = false) {a0 : Nat} {h : zSt} {cc : Nat × Nat} {r : Int32 × zSt} (hF : F_L_law a0 h = some (cc, r)) : zW l G ML_law 1028 24169 (cc.1 + 0) (cc.2 + 0) 0 [(0, .ref a0)] [] (hK h) (jF h) (hI h) (hL h) (zQe (.inl (some (.int r.1))) (hK r.2) (jF r.2) (hI r.2) (hL r.2)) := by
  unfold F_L_law at hF
  obtain ⟨cc, hF, hcc⟩ := zpay_some hF
  refine z_payE hcc ?_
  obtain ⟨hn_1, hF⟩ := zg_some hF
  obtain ⟨o_4, e_5, hF⟩ := zlet_ob hF
  obtain ⟨h_2, e_3, hF⟩ := zlet_ob hF
  refine z_newT (n := 3) dL_law_0 rfl zok0 ⟨_, rfl, rfl, q146⟩ q145 q105 hn_1 e_5 e_3 rfl ?_
  refine z_dup (n := 4) dL_law_3 rfl rfl ?_
  obtain ⟨c_8, h_7, c_6, hF⟩ := zc1_some hF
  obtain ⟨cc, hF, hcc⟩ := zpay_some hF
  refine z_payE hcc ?_
  refine z_cI (n := 7) (mc2 := (cc.1 + 0)) (ms2 := (cc.2 + 0)) (st := [.ref o_4]) (C_X1_init htr c_6) dL_law_4 rfl q149 q105 q147 q148 rfl hcee_X1_init rfl (by decide) rfl (Nat.le_of_ble_eq_true rfl) (Nat.le_of_eq (Nat.add_comm _ _)) (Nat.le_of_eq (Nat.add_comm _ _)) ?_
  refine z_astore_nS (n := 8) (lv' := [(1, .ref o_4), (0, .ref a0)]) dL_law_7 rfl rfl (by decide) rfl ?_
  obtain ⟨cc, hF, hcc⟩ := zpay_some hF
  refine z_payE hcc ?_
  obtain ⟨h_9, hF⟩ := zg_some hF
  obtain ⟨hn_10, hF⟩ := zg_some hF
  obtain ⟨h_11, e_12, hF⟩ := zlet_ob hF
  refine z_newT (n := 11) dL_law_8 rfl zok6 ⟨_, rfl, rfl, q1663⟩ q1662 q131 hn_10 (of_decide_eq_true h_9).symm e_12 rfl ?_
  refine z_dup (n := 12) dL_law_11 rfl rfl ?_
  obtain ⟨c_15, h_14, c_13, hF⟩ := zc1_some hF
  obtain ⟨cc, hF, hcc⟩ := zpay_some hF
  refine z_payE hcc ?_
  refine z_cI (n := 15) (mc2 := (cc.1 + 0)) (ms2 := (cc.2 + 0)) (st := [.ref 1860]) (C_X7_init htr c_13) dL_law_12 rfl q1666 q131 q1664 q1665 rfl hcee_X7_init rfl (by decide) rfl (Nat.le_of_ble_eq_true rfl) (Nat.le_of_eq (Nat.add_comm _ _)) (Nat.le_of_eq (Nat.add_comm _ _)) ?_
  refine z_astore_nS (n := 16) (lv' := [(2, .ref 1860), (1, .ref o_4), (0, .ref a0)]) dL_law_15 rfl rfl (by decide) rfl ?_
  refine z_iconst (n := 17) (v := 1) dL_law_16 rfl (by decide) ?_
  obtain ⟨cc, hF, hcc⟩ := zpay_some hF
  refine z_payE hcc ?_
  obtain ⟨hn_16, hF⟩ := zg_some hF
  obtain ⟨o_19, e_20, hF⟩ := zlet_ob hF
  obtain ⟨h_17, e_18, hF⟩ := zlet_ob hF
  refine z_newaT (t := 3) (n := 19) .long dL_law_17 rfl rfl (by decide) q2290 (by decide) (by decide) (by decide) hn_16 e_20 e_18 ?_
  refine z_astore_nS (n := 20) (lv' := [(3, .ref o_19), (2, .ref 1860), (1, .ref o_4), (0, .ref a0)]) dL_law_19 rfl rfl (by decide) rfl ?_
  refine z_iconst (n := 21) (v := 0) dL_law_20 rfl (by decide) ?_
  refine z_istoreE (n := 23) (lv' := [(4, .int 0), (3, .ref o_19), (2, .ref 1860), (1, .ref o_4), (0, .ref a0)]) dL_law_21 rfl rfl (by decide) rfl ?_
  refine z_sub [4, 3, 2, 1, 0] rfl ?_
  rcases zcs_some hF with ⟨c_1030, t_1031, e_1029, hF⟩ | ⟨c_1030, t_1031, e_1029, hF⟩
  · skip
    obtain ⟨cc, hF, hcc⟩ := zpay_some hF
    obtain ⟨h_1028, rfl⟩ : ∃ z, z = t_1031 := ⟨_, rfl⟩
    have H_1032 : zW l G ML_law 1028 24169 (cc.1 + 0) (cc.2 + 0) 2222 [] [] (hK h_1028) (jF h_1028) (hI h_1028) (hL h_1028) (zQe (.inl (some (.int r.1))) (hK r.2) (jF r.2) (hI r.2) (hL r.2)) := by
      refine z_iconst (n := 2223) (v := 1) dL_law_2222 rfl (by decide) ?_
      obtain ⟨rfl, rfl⟩ := zpair hF
      exact z_iret dL_law_2223 rfl rfl ⟨rfl, rfl, rfl, rfl, rfl⟩
    refine z_payE hcc ?_
    refine zloopC_ind (P := fun (s : Int32 × zSt) m w => zW l G ML_law 1028 24169 (m + (cc.1 + 0)) (w + (cc.2 + 0)) 23 [(0, .ref a0), (1, .ref o_4), (2, .ref 1860), (3, .ref o_19), (4, .int s.1)] [] (hK s.2) (jF s.2) (hI s.2) (hL s.2) (zQe (.inl (some (.int r.1))) (hK r.2) (jF r.2) (hI r.2) (hL r.2))) (fun s c r E9 W9 hb kl kr => ?_) e_1029
    refine z_eq (Nat.add_assoc _ _ _) (Nat.add_assoc _ _ _) ?_
    exact W_L_law_L23 (a0 := a0) htr hb (fun z0 z1 e => kl _ e) (fun y0 e => by obtain ⟨h1, rfl, rfl⟩ := kr _ e; cases h1; exact z_eq (Nat.zero_add _) (Nat.zero_add _) H_1032) (fun z e => by have h1 := (kr _ e).1; cases h1)
  · skip
    obtain ⟨cc, hF, hcc⟩ := zpay_some hF
    obtain ⟨h9, hq⟩ := zpair hF
    subst h9
    refine z_payE hcc ?_
    refine zloopC_ind (P := fun (s : Int32 × zSt) m w => zW l G ML_law 1028 24169 (m + (((0, 0) : Nat × Nat).1 + 0)) (w + (((0, 0) : Nat × Nat).2 + 0)) 23 [(0, .ref a0), (1, .ref o_4), (2, .ref 1860), (3, .ref o_19), (4, .int s.1)] [] (hK s.2) (jF s.2) (hI s.2) (hL s.2) (zQe (.inl (some (.int r.1))) (hK r.2) (jF r.2) (hI r.2) (hL r.2))) (fun s c r E9 W9 hb kl kr => ?_) e_1029
    refine z_eq (Nat.add_assoc _ _ _) (Nat.add_assoc _ _ _) ?_
    exact W_L_law_L23 (a0 := a0) htr hb (fun z0 z1 e => kl _ e) (fun y0 e => by have h1 := (kr _ e).1; cases h1) (fun z e => by have h1 := (kr _ e).1; cases h1; subst hq; exact ⟨rfl, rfl, rfl, rfl, rfl⟩)
