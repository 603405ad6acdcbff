/-! L26: winters: the model -/
section L26
variable {I : zId} {P : zP} {X : zXd}
theorem F7_draw_ok (n : Int32) (hn : ¬ n = 0) : F_X7_drawOf n I = some (sp_dv (sp_dn (I 1860 53)) n, zu I 1860 53 (sp_dn (I 1860 53))) := by
  have hd : (!(decide (n = 0))) = true := by rw [decide_eq_false hn]; rfl
  unfold F_X7_drawOf
  rw [zlet_e, hd, zg_true]
  unfold sp_dv sp_dn
  rw [zu_same]
theorem zmv2_53 {nf nb : Nat} {v : Int32} : zmv2 nf nb (zu I 1860 53 v) = zmv2 nf nb I := zmvo (by simp [zmok])
def zmfw (I I' : zId) : Prop := ∀ x k, (zdyn x k || (x == 1860 && k == 53)) = false → I' x k = I x k
theorem zmfw.tr {I J L : zId} (h1 : zmfw I J) (h2 : zmfw J L) : zmfw I L := fun x k h => (h2 x k h).trans (h1 x k h)
theorem zmfw.rf {I : zId} : zmfw I I := fun _ _ _ => rfl
theorem zmfw.zu {I J : zId} {x k : Nat} {v : Int32} (h : zmfw I J) (hd : (zdyn x k || (x == 1860 && k == 53)) = true) : zmfw I (zu J x k v) := fun y j hy => by
  rw [zu_off fun q => by obtain ⟨rfl, rfl⟩ := q; rw [hd] at hy; cases hy]
  exact h y j hy
theorem zmfr.w {J : zId} (h : zmfr I J) : zmfw I J := fun x k hx => h x k (by rw [Bool.or_eq_false_iff] at hx; exact hx.1)
theorem zmfw.row {J : zId} (h : zmfw I J) {x : Nat} (hx : ∀ k, (zdyn x k || (x == 1860 && k == 53)) = false) : J x = I x := funext fun k => h x k (hx k)
theorem zmfw.mf {J : zId} (h : zmfw I J) : zmf I J := fun x k hx => h x k (by
  simp only [zmsc, zdyn, Bool.or_eq_false_iff, Bool.and_eq_false_iff, decide_eq_false_iff_not, beq_eq_false_iff_ne, ne_eq] at hx ⊢
  omega)
theorem zmfr.s {J : zId} (h : zmfr I J) : J 1860 53 = I 1860 53 := h 1860 53 (by simp [zdyn])
theorem F7_frost_ok (hM : zML I P) (hp : pInv P) (hi : sInv P (zmv2 (pnf P) (pnb P) I)) : ∃ J, F_X7_frost I = some J ∧ (zmv2 (pnf P) (pnb P) J, J 1860 53) = sp_fro P (zmv2 (pnf P) (pnb P) I) (I 1860 53) ∧ zmfw I J := by
  have hnf := hp.1
  have hn0 : (I 1862 0 = 0) ↔ pnf P = 0 := by rw [hM.1]; exact nI_eq (b := 0) (by omega) (by omega)
  by_cases h0 : pnf P = 0
  · refine ⟨I, ?_, by unfold sp_fro; rw [if_pos h0], zmfw.rf⟩
    unfold F_X7_frost
    rw [if_neg (fun h => h (hn0.mpr h0))]
  have hmr := hM.2.2.2.2.2.1
  have dr1 := F7_draw_ok (I := I) (nI (pnf P)) (nI_ne0 (by omega) (by omega))
  have dr2 := F7_draw_ok (I := zu I 1860 53 (sp_dn (I 1860 53))) 4 (by decide)
  rw [zu_same] at dr2
  unfold sp_fro
  rw [if_neg h0]
  generalize sp_dn (I 1860 53) = s1 at dr1 dr2 ⊢
  generalize sp_dn s1 = s2 at dr2 ⊢
  generalize sp_dv s2 4 = how at dr2 ⊢
  obtain ⟨f, hf, ef⟩ := sp_dv_ok s1 (n := pnf P) (by omega) (by omega)
  rw [ef] at dr1 ⊢
  rw [nI_c (show f < 2147483648 by omega)]
  obtain ⟨J, eJ⟩ : ∃ J, J = zu (zu I 1860 53 s1) 1860 53 s2 := ⟨_, rfl⟩
  rw [← eJ] at dr2
  have hI2 : ∀ x, x ≠ 1860 → J x = I x := fun x hx => by rw [eJ, zu_row hx, zu_row hx]
  have hcv : zmv2 (pnf P) (pnb P) J = zmv2 (pnf P) (pnb P) I := by rw [eJ, zmv2_53, zmv2_53]
  have hcf : zmfw I J := by rw [eJ]; exact (zmfw.rf.zu (by simp [zdyn])).zu (by simp [zdyn])
  have hs2 : J 1860 53 = s2 := by rw [eJ, zu_same]
  have hrm : J 1865 f = prm P f := by rw [hI2 _ (by decide)]; exact (hmr f hf).1
  clear eJ
  have zf := zin_n (show f < 8 by omega)
  have zf2 := zin_n (show f < 16 by omega)
  have cf := nI_c (show f < 2147483648 by omega)
  have a0 : zmv2 (pnf P) (pnb P) J 0 f = J 1875 f := zmv20 hf
  have a1 : zmv2 (pnf P) (pnb P) J 1 f = J 1876 f := zmv21 hf
  have hb := (hi.2 f hf).2.1.2
  rw [← hcv, a0, a1] at hb
  have hr0 := (hi.2 f hf).1
  rw [← hcv, a0] at hr0
  unfold sp_hap
  rw [← hcv, a0, a1]
  unfold F_X7_frost
  rw [if_pos (show ¬ I 1862 0 = 0 from fun h => h0 (hn0.mp h)), hM.1, dr1, zb2_e, dr2, zb2_e]
  have z01 : ∀ (L : zId) (v : Int32), zu L 1875 f v 1876 = L 1876 := fun L v => zu_row (by decide)
  by_cases c0 : how = 0
  · rw [if_pos c0]
    subst c0
    refine ⟨zu (zu J 1875 f (J 1875 f - J 1875 f / 10)) 1876 f (zmin (J 1876 f) (J 1875 f - J 1875 f / 10)), ?_, Prod.ext ?_ ?_, (hcf.zu (by simp [zdyn])).zu (by simp [zdyn])⟩
    · simp only [↓reduceIte, zlet_e, zg_true, zf, cf, z01, zu_same, not_true_eq_false, show ¬ (0 : Int32) = 1 by decide, not_false_eq_true]
    · rw [zmvu1 hf, zmvu0 hf]
    · dsimp only
      rw [zu_row (by decide), zu_row (by decide)]
      exact hs2
  · rw [if_neg c0]
    have hmin : ∀ L : zId, L 1876 f = J 1876 f → (J 1876 f).toInt ≤ (L 1875 f).toInt → zu L 1876 f (zmin (L 1876 f) (L 1875 f)) = L := fun L e1 e2 => by
      have : zmin (L 1876 f) (L 1875 f) = L 1876 f := by
        apply i_ext
        rw [i_min, e1]
        omega
      rw [this, zu_self]
    by_cases c1 : how = 1
    · rw [if_pos c1]
      subst c1
      by_cases c2 : prm P f < J 1875 f + 10
      · rw [if_pos c2]
        refine ⟨J, ?_, Prod.ext rfl hs2, hcf⟩
        simp only [↓reduceIte, zlet_e, zg_true, zf, zf2, cf, show ¬ (1 : Int32) = 0 by decide, not_false_eq_true, not_true_eq_false, hrm, c2, hmin J rfl hb]
      · rw [if_neg c2]
        have e2 : (J 1875 f + 10).toInt = (J 1875 f).toInt + 10 := by
          unfold rg at hr0
          exact i_add (y := 10) (by show _ ≤ _ + 10; omega) (by show _ + 10 < _; omega)
        have hm2 := hmin (zu J 1875 f (J 1875 f + 10)) (by rw [z01]) (by rw [zu_same, e2]; omega)
        refine ⟨zu J 1875 f (J 1875 f + 10), ?_, Prod.ext (zmvu0 hf) ?_, hcf.zu (by simp [zdyn])⟩
        · simp only [↓reduceIte, zlet_e, zg_true, zf, zf2, cf, show ¬ (1 : Int32) = 0 by decide, not_false_eq_true, not_true_eq_false, hrm, c2, hm2]
        · dsimp only
          rw [zu_row (by decide)]
          exact hs2
    · rw [if_neg c1]
      refine ⟨J, ?_, Prod.ext rfl hs2, hcf⟩
      simp only [↓reduceIte, zlet_e, zg_true, zf, zf2, cf, c0, c1, not_false_eq_true, hmin J rfl hb]
theorem F7_all_ok {nf nb : Nat} {J : zId} (e : J 1862 0 = nI nf) (hb : nf ≤ 8) : F_X7_allSables J = some (zsm (zmv2 nf nb J 0) nf) := by
  have s := zloop_up (body := fun s : Int32 × Int32 => F_X7_allSables_L4 J s.1 s.2) (fun i s => s = (zsm (zmv2 nf nb J 0) i, nI i)) (fun t => t = zsm (zmv2 nf nb J 0) nf) nf ?_ ?_ 0 (0, 0) (Nat.zero_le _) rfl
  · obtain ⟨t, h1, rfl⟩ := s
    simp only [F_X7_allSables, h1, zb1_e]
  · rintro i s hib rfl
    refine Or.inl ⟨(zsm (zmv2 nf nb J 0) (i + 1), nI (i + 1)), ?_, rfl⟩
    dsimp only
    simp only [F_X7_allSables_L4, e, nI_ge hib (show nf < 2 ^ 31 by omega), ↓reduceIte, zg_true, zb1_e, zb2_e, zb3_e, zsum, zlet_e, nI_1, zin_n (show i < 8 by omega), nI_c (show i < 2147483648 by omega), zsm, zmv20 hib]
  · rintro s rfl
    dsimp only
    simp only [F_X7_allSables_L4, e, ↓reduceIte, nI_le (Nat.le_refl (nf)) (show nf < 2 ^ 31 by omega)]
    exact ⟨_, rfl, rfl⟩
theorem F7_winter_ok (hQ : zMQ I P X) (hp : pInv P) (hi : sInv P (zmv2 (pnf P) (pnb P) I)) (sd y w : Int32) : ∃ J, F_X7_winter sd y w I = some (qV (q_winter P (zmv2 (pnf P) (pnb P) I) sd y w), J) ∧ J 1860 1 = qE (q_winter P (zmv2 (pnf P) (pnb P) I) sd y w) ∧ zmv2 (pnf P) (pnb P) J = zmv2 (pnf P) (pnb P) I ∧ zmf I J := by
  have hc := zmf_c1 (I := I) (v := 0)
  have hQ1 := hQ.mf hc
  have em : zmv2 (pnf P) (pnb P) (zu I 1860 1 0) = zmv2 (pnf P) (pnb P) I := zmv2_c1
  have hnf := hp.1
  have hnb := hp.2.1
  have h10 : ¬ (1 : Int32) = 0 := by decide
  unfold q_winter
  rcases zib_cases w 2 (by decide) with ⟨w, hw, rfl⟩ | ⟨hw, hw2⟩
  · rw [q_in_ok hw (by decide)]
    have hz := F7_isIn_0 (I := zu I 1860 1 0) (nI w) 2 (h64 := 2) rfl
    rw [show zib (nI w) 0 2 = 1 from zib_nI hw (by decide)] at hz
    rcases zib_cases y 50 (by decide) with ⟨n, hn, rfl⟩ | ⟨hy, hy2⟩
    · rw [q_in_ok hn (by decide)]
      have hz2 := F7_isIn_0 (I := zu I 1860 1 0) (nI n) 50 (h64 := 50) rfl
      rw [show zib (nI n) 0 50 = 1 from zib_nI hn (by decide)] at hz2
      have hw1 : (nI w = 1) ↔ w = 1 := nI_eq (b := 1) (by omega) (by omega)
      have hw0 : (nI w = 0) ↔ w = 0 := nI_eq (b := 0) (by omega) (by omega)
      obtain ⟨I1, g1, g2, g3, g4, g5, g6⟩ := F7_ahead_ok hQ1 hp (by rw [em]; exact hi)
      rw [em] at g3
      have g7 : zmf (zu I 1860 1 0) (zu I1 1860 53 sd) := g4.zu (by simp [zmsc])
      have g8 : zmv2 (pnf P) (pnb P) (zu I1 1860 53 sd) = (zmv2 (pnf P) (pnb P) I) := by rw [zmv2_53, g3]
      have s := zloop_up (body := fun s : Int32 × zId => F_X7_winter_L64 (nI n) s.1 s.2) (fun i s => s.1 = nI i ∧ (zmv2 (pnf P) (pnb P) s.2, s.2 1860 53) = sp_win P (zmv2 (pnf P) (pnb P) I) sd i ∧ zmfw (zu I1 1860 53 sd) s.2) (fun t => zmv2 (pnf P) (pnb P) t = (sp_win P (zmv2 (pnf P) (pnb P) I) sd n).1 ∧ zmfw (zu I1 1860 53 sd) t) n ?_ ?_ 0 (0, zu I1 1860 53 sd) (Nat.zero_le _) ⟨rfl, Prod.ext g8 (show zu I1 1860 53 sd 1860 53 = sd from zu_same), zmfw.rf⟩
      · obtain ⟨J, s1, s2, s3⟩ := s
        have hJ := (hQ1.mf g7).mf s3.mf
        have b1 : J 1886 = I1 1886 := by rw [s3.row (x := 1886) fun k => by simp [zdyn], zu_row (by decide)]
        have b2 : J 1868 = I 1868 := by rw [s3.row (x := 1868) fun k => by simp [zdyn], zu_row (by decide), g5, zu_row (by decide)]
        have b3 : J 1860 1 = 0 := by rw [s3 1860 1 (by simp [zdyn]), zu_off (by omega), g6, zu_same]
        obtain ⟨J2, u1, u2, u3, u4, -⟩ := F7_back_ok hp g2 b1 (fun j _ => by rw [b2, zu_row (by decide)]) (g7.tr s3.mf) (by rw [b3, zu_same])
        refine ⟨J2, ?_, by rw [u4, zu_same]; rfl, by rw [u2, em], hc.tr u3⟩
        have hv : ∀ f, f < pnf P → J 1875 f = (sp_win P (zmv2 (pnf P) (pnb P) I) sd n).1 0 f := fun f hf => by rw [← s2]; exact (zmv20 hf).symm
        have l := zloop_up (body := fun s : Int32 × Int32 => F_X7_winter_L90 J s.1 s.2) (fun i s => s = (zcn (fun f => decide ((sp_win P (zmv2 (pnf P) (pnb P) I) sd n).1 0 f = 0)) i, nI i)) (fun t => t = zcn (fun f => decide ((sp_win P (zmv2 (pnf P) (pnb P) I) sd n).1 0 f = 0)) (pnf P)) (pnf P) ?_ ?_ 0 (0, 0) (Nat.zero_le _) rfl
        · obtain ⟨v, l1, l2⟩ := l
          have d1 := F7_allDead_ok (nf := pnf P) hJ.1.2.1 hp.2.1
          have d2 := F7_allDead_ok (nf := pnf P) (hQ1.mf g7).1.2.1 hp.2.1
          have d3 := F7_all_ok (nb := pnb P) hJ.1.1 hp.1
          rw [s2] at d1 d3
          rw [g8] at d2
          simp only [F_X7_winter, zlet_e, zb1_e, hz, hz2, h10, not_false_eq_true, ↓reduceIte, g1, d2, s1, l1, l2, d1, d3, hw0, hw1, u1, qV]
          by_cases c0 : w = 0
          · rw [if_neg (fun h => h c0), if_pos c0]
          · rw [if_pos c0, if_neg c0]
            by_cases c1 : w = 1
            · rw [if_neg (fun h => h c1), if_pos c1]
            · rw [if_pos c1, if_neg c1]
        · rintro i s hib rfl
          dsimp only
          by_cases c : (sp_win P (zmv2 (pnf P) (pnb P) I) sd n).1 0 i = 0
          · refine Or.inl ⟨(zcn (fun f => decide ((sp_win P (zmv2 (pnf P) (pnb P) I) sd n).1 0 f = 0)) (i + 1), nI (i + 1)), ?_, rfl⟩
            simp only [F_X7_winter_L90, hJ.1.1, ↓reduceIte, zg_true, zb1_e, zb2_e, zb3_e, zsum, zlet_e, nI_1, nI_ge hib (show pnf P < 2 ^ 31 by omega), zin_n (show i < 8 by omega), nI_c (show i < 2147483648 by omega), hv i hib, c, not_true_eq_false, zcn, decide_true]
          · refine Or.inl ⟨(zcn (fun f => decide ((sp_win P (zmv2 (pnf P) (pnb P) I) sd n).1 0 f = 0)) (i + 1), nI (i + 1)), ?_, rfl⟩
            simp only [F_X7_winter_L90, hJ.1.1, ↓reduceIte, zg_true, zb1_e, zb2_e, zb3_e, zsum, zlet_e, nI_1, nI_ge hib (show pnf P < 2 ^ 31 by omega), zin_n (show i < 8 by omega), nI_c (show i < 2147483648 by omega), hv i hib, c, not_false_eq_true, zcn, decide_false, Bool.false_eq_true, Int32.add_zero]
        · rintro s rfl
          dsimp only
          simp only [F_X7_winter_L90, hJ.1.1, ↓reduceIte, nI_le (Nat.le_refl (pnf P)) (show pnf P < 2 ^ 31 by omega)]
          exact ⟨_, rfl, rfl⟩
      · rintro i ⟨_, J⟩ hin ⟨rfl, e1, e3⟩
        dsimp only at e1 e3
        have c1 := congrArg Prod.fst e1
        have c2 := congrArg Prod.snd e1
        dsimp only at c1 c2
        have hJ := (hQ1.mf g7).mf e3.mf
        have hsv := sInv_win hp hi sd i
        obtain ⟨J0, m1, m2, m3⟩ := F7_frost_ok hJ.1 hp (by rw [c1]; exact hsv)
        rw [c1, c2] at m2
        have q1 := congrArg Prod.fst m2
        have q2 := congrArg Prod.snd m2
        dsimp only at q1 q2
        obtain ⟨J1, r1, r2, -, r4⟩ := F7_aYear_ok (hJ.mf m3.mf).1 hp (by rw [q1]; exact sInv_fro hp hsv _)
        refine Or.inl ⟨(nI (i + 1), J1), ?_, rfl, ?_, (e3.tr m3).tr r4.w⟩
        · dsimp only
          simp only [F_X7_winter_L64, nI_ge hin (show n < 2 ^ 31 by omega), m1, r1, ↓reduceIte, zg_true, zb1_e, zb2_e, zb3_e, zsum, zlet_e, nI_1]
        · dsimp only
          rw [sp_win, r2, r4.s, q1, q2]
      · rintro ⟨_, J⟩ ⟨rfl, e1, e3⟩
        exact ⟨J, by dsimp only; simp only [F_X7_winter_L64, ↓reduceIte, nI_le (Nat.le_refl (n)) (show n < 2 ^ 31 by omega)], congrArg Prod.fst e1, e3⟩
    · rw [q_in_no hy2]
      have hz2 := F7_isIn_0 (I := zu I 1860 1 0) y 50 (h64 := 50) rfl
      rw [show zib y 0 50 = 0 from hy] at hz2
      (obtain ⟨J, g1, g2, g3, g4⟩ := F7_fail_ok (P := P) 2 2 rfl hc em; refine ⟨J, ?_, g2, g3, g4⟩; simp only [F_X7_winter, zlet_e, zb1_e, g1, zb2_e, qV, hz, hz2, if_pos h10]; try first | rfl | exact zlt_if (n := 1) (by assumption))
  · rw [q_in_no hw2]
    have hz := F7_isIn_0 (I := zu I 1860 1 0) w 2 (h64 := 2) rfl
    rw [show zib w 0 2 = 0 from hw] at hz
    (obtain ⟨J, g1, g2, g3, g4⟩ := F7_fail_ok (P := P) 1 1 rfl hc em; refine ⟨J, ?_, g2, g3, g4⟩; simp only [F_X7_winter, zlet_e, zb1_e, g1, zb2_e, qV, hz]; try first | rfl | exact zlt_if (n := 1) (by assumption))
end L26
