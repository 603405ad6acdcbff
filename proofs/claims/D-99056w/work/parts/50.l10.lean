/-! L10: the model's year -/
section L10
variable {I : zId} {P : zP}
theorem zrest_e {x : Int32} (h : 0 ≤ x.toInt) : (if x ≤ 0 then x else x - 1) = zmax 0 (x - 1) := by
  apply i_ext
  have hr := i_rng x
  have e : (x - 1).toInt = x.toInt - 1 := i_sub (by rw [i_1]; omega) (by rw [i_1]; omega)
  rw [i_max, e, i_0]
  split
  · rename_i c; have := iLe.mp c; rw [i_0] at this; omega
  · rename_i c; have := mt iLe.mpr c; rw [i_0] at this; rw [e]; omega
set_option maxHeartbeats 1000000 in
theorem F7_grow_ok (hM : zML I P) (hp : pInv P) (hi : sInv P (zmv2 (pnf P) (pnb P) I)) {f : Nat} (hf : f < pnf P) : ∃ I', F_X7_grow (nI f) I = some I' ∧ zmv2 (pnf P) (pnb P) I' = sp_gr P (zmv2 (pnf P) (pnb P) I) f ∧ I' 1860 41 = I 1860 41 ∧ zmfr I I' := by
  obtain ⟨m0, m2, m4, m5, m6, mr, mh0, mh1⟩ := hM
  obtain ⟨q1, q2⟩ := mr f hf
  have hnf := hp.1
  have zf := zin_n (show f < 8 by omega)
  have zf2 := zin_n (show f < 16 by omega)
  have cf := nI_c (show f < 2147483648 by omega)
  have r2 := (hi.2 f hf).2.2.1
  rw [zmv22 hf] at r2
  unfold sp_gr sp_grn
  rw [zmv20 hf, zmv21 hf, zmv22 hf, zrest_e r2]
  refine ⟨zu (zu (zu I 1875 f (zmax (I 1875 f) (zmin (prm P f) (I 1875 f + I 1875 f * pgr P f / 100)))) 1876 f (zmin (zmax (I 1875 f) (zmin (prm P f) (I 1875 f + I 1875 f * pgr P f / 100))) (I 1876 f + I 1876 f * pgr P f / 100))) 1877 f (zmax 0 (I 1877 f - 1)), ?_, ?_, ?_, ?_⟩
  · simp (decide := true) only [F_X7_grow, F_X7_grown, zf, zf2, cf, zg_true, zlet_e, zb1_e, q1, q2, zu_same, zu_row, ne_eq]
  · rw [zmvu2 hf, zmvu1 hf, zmvu0 hf]
  · simp (decide := true) only [zu_row, ne_eq]
  · exact ((zmfr.rf.zu (by simp [zdyn])).zu (by simp [zdyn])).zu (by simp [zdyn])
theorem F7_aYear_ok (hM : zML I P) (hp : pInv P) (hi : sInv P (zmv2 (pnf P) (pnb P) I)) : ∃ I', F_X7_aYear I = some I' ∧ zmv2 (pnf P) (pnb P) I' = sp_ye P (zmv2 (pnf P) (pnb P) I) ∧ I' 1860 41 = sp_lb P (zmv2 (pnf P) (pnb P) I) ∧ zmfr I I' := by
  have hnb := hp.2.1
  have hnf := hp.1
  have s := zloop_up (body := fun s : Int32 × zId => F_X7_aYear_L7 s.1 s.2) (fun i s => s.1 = nI i ∧ (zmv2 (pnf P) (pnb P) s.2, s.2 1860 41) = sp_bs P (zmv2 (pnf P) (pnb P) I) (-1) i ∧ zmfr I s.2) (fun t => (zmv2 (pnf P) (pnb P) t, t 1860 41) = sp_bs P (zmv2 (pnf P) (pnb P) I) (-1) (pnb P) ∧ zmfr I t) (pnb P) ?_ ?_ 0 (0, zu I 1860 41 (-1)) (Nat.zero_le _) ⟨rfl, by dsimp only; rw [zmv2_u41, zu_same]; rfl, zmfr.rf.zu (by simp [zdyn])⟩
  · obtain ⟨J, h1, h2, h3⟩ := s
    have e1 := congrArg Prod.fst h2
    have e2 := congrArg Prod.snd h2
    dsimp only at e1 e2
    have s := zloop_up (body := fun s : Int32 × zId => F_X7_aYear_L35 s.1 s.2) (fun i s => s.1 = nI i ∧ zmv2 (pnf P) (pnb P) s.2 = sp_fs P (zmv2 (pnf P) (pnb P) J) i ∧ s.2 1860 41 = J 1860 41 ∧ zmfr I s.2) (fun t => zmv2 (pnf P) (pnb P) t = sp_fs P (zmv2 (pnf P) (pnb P) J) (pnf P) ∧ t 1860 41 = J 1860 41 ∧ zmfr I t) (pnf P) ?_ ?_ 0 (0, J) (Nat.zero_le _) ⟨rfl, rfl, rfl, h3⟩
    · obtain ⟨L, g1, g2, g3, g4⟩ := s
      refine ⟨zu L 1860 34 (L 1860 34 + 1), ?_, ?_, ?_, g4.zu (by simp [zdyn])⟩
      · simp only [F_X7_aYear, zlet_e, h1, zb1_e, g1]
      · have e9 : L 1860 34 = zmv2 (pnf P) (pnb P) L 9 0 := rfl
        rw [zmvu90, e9, g2, e1]
        rfl
      · rw [zu_off (by omega), g3, e2]
        rfl
    · rintro i ⟨_, L⟩ hib ⟨rfl, c1, c2, c3⟩
      dsimp only at c1 c2 c3
      have hiL : sInv P (zmv2 (pnf P) (pnb P) L) := by
        rw [c1, e1]
        exact sInv_fs hp (sInv_bs hp hi _ _ (Nat.le_refl _)) _ (Nat.le_of_lt hib)
      obtain ⟨L1, g1, g2, g3, g4⟩ := F7_grow_ok (hM.fr c3) hp hiL hib
      refine Or.inl ⟨(nI (i + 1), L1), ?_, rfl, ?_, by dsimp only; rw [g3]; exact c2, c3.tr g4⟩
      · dsimp only
        simp only [F_X7_aYear_L35, (hM.fr c3).1, if_neg (nI_ge hib (show pnf P < 2 ^ 31 by omega)), g1, zb1_e, zlet_e, nI_1]
      · dsimp only
        rw [g2, c1, sp_fs]
    · rintro ⟨_, L⟩ ⟨rfl, c1, c2, c3⟩
      have hm : zML L P := hM.fr c3
      refine ⟨L, ?_, c1, c2, c3⟩
      dsimp only
      simp only [F_X7_aYear_L35, hm.1, if_pos (nI_le (Nat.le_refl _) (show pnf P < 2 ^ 31 by omega))]
  · rintro i ⟨_, J⟩ hib ⟨rfl, e1, e3⟩
    dsimp only at e1 e3
    have c1 := congrArg Prod.fst e1
    have c2 := congrArg Prod.snd e1
    dsimp only at c1 c2
    have hiJ : sInv P (zmv2 (pnf P) (pnb P) J) := by rw [c1]; exact sInv_bs hp hi _ _ (Nat.le_of_lt hib)
    obtain ⟨J1, g1, g2, g3, g4⟩ := F7_hunt_ok (hM.fr e3) hp hiJ hib
    obtain ⟨J2, m1, m2, m3, m4⟩ := F7_pay_ok ((hM.fr e3).fr g4) hp hib
    refine Or.inl ⟨(nI (i + 1), J2), ?_, rfl, ?_, e3.tr (g4.tr m4)⟩
    · dsimp only
      simp only [F_X7_aYear_L7, (hM.fr e3).2.1, if_neg (nI_ge hib (show pnb P < 2 ^ 31 by omega)), g1, m1, zb1_e, zlet_e, nI_1]
    · dsimp only
      rw [m2, g2, m3, g3, c1, c2, sp_bs]
  · rintro ⟨_, J⟩ ⟨rfl, e1, e3⟩
    have hm : zML J P := hM.fr e3
    refine ⟨J, ?_, e1, e3⟩
    dsimp only
    simp only [F_X7_aYear_L7, hm.2.1, if_pos (nI_le (Nat.le_refl _) (show pnb P < 2 ^ 31 by omega))]
end L10
