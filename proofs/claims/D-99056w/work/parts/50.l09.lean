/-! L09: the model's takes, hunt, pay, grow, aYear -/
section L09
variable {I : zId} {P : zP}
theorem zmfr_dyn {J : zId} (h : zmfr I J) {x : Nat} (hx : ∀ k, zdyn x k = false) : J x = I x := h.row hx
theorem zmv2_u4 {nf nb : Nat} {J : zId} {j : Nat} {v : Int32} : zmv2 nf nb (zu J 1884 j v) = zmv2 nf nb J := zmvo (by simp [zmok])
theorem zmv2_u41 {nf nb : Nat} {J : zId} {v : Int32} : zmv2 nf nb (zu J 1860 41 v) = zmv2 nf nb J := zmvo (by simp [zmok])
set_option maxHeartbeats 1000000 in
theorem F7_takes_ok (hM : zML I P) (hp : pInv P) (hi : sInv P (zmv2 (pnf P) (pnb P) I)) {b : Nat} (hb : b < pnb P) : ∃ I', F_X7_takes (nI b) I = some (sp_tk P (zmv2 (pnf P) (pnb P) I) b, I') ∧ ∀ x, x ≠ 1884 → x ≠ 1885 → I' x = I x := by
  have hnb := hp.2.1
  have hnf := hp.1
  obtain ⟨e4, hf⟩ := hi.at' hp hb
  have hM0 := hM
  obtain ⟨m0, m2, m4, m5, m6, mr, mh0, mh1⟩ := hM
  unfold sp_tk
  generalize hf' : sp_f (zmv2 (pnf P) (pnb P) I) b = f at *
  unfold sp_tkf
  rw [zmv22 hf, zmv20 hf]
  have e4' : I 1878 b = nI f := (zmv24 (nf := pnf P) (nb := pnb P) hb).symm.trans e4
  have zb := zin_n (show b < 6 by omega)
  have zb2 := zin_n (show b < 12 by omega)
  have cb := nI_c (show b < 2147483648 by omega)
  have zf := zin_n (show f < 8 by omega)
  have cf := nI_c (show f < 2147483648 by omega)
  by_cases c1 : I 1877 f ≤ 0
  · rw [if_pos c1]
    cases hph : phv P with
    | none =>
      refine ⟨I, ?_, fun x _ _ => rfl⟩
      simp only [F_X7_takes, zb, zb2, cb, zg_true, zlet_e, e4', zf, cf, if_pos c1, if_pos (mh0 hph)]
      unfold sp_want
      rw [hph]
      dsimp only
      rw [zmv23 hb]
    | some h =>
      obtain ⟨hs, hev⟩ := mh1 h hph
      have rd : ∀ (x : Nat), x ≠ 1884 → ∀ (J : zId) (i : Nat) (v : Int32), zu J 1884 i v x = J x := fun x hx J i v => zu_row hx
      let J5 : zId := zu (zu (zu (zu (zu (zu I 1884 0 (I 1868 b)) 1884 1 (I 1875 f)) 1884 2 (I 1881 b)) 1884 3 (I 1862 4 * I 1879 b)) 1884 4 (I 1860 34)) 1884 5 (I 1880 b)
      have hJ : ∀ x, x ≠ 1884 → J5 x = I x := fun x hx => by
        show zu (zu (zu (zu (zu (zu I _ _ _) _ _ _) _ _ _) _ _ _) _ _ _) _ _ _ x = _
        rw [rd x hx, rd x hx, rd x hx, rd x hx, rd x hx, rd x hx]
      have hbi := F7_bandsIn_ok (I := J5) (hM0.cg (hJ _ (by decide)) (hJ _ (by decide)) (hJ _ (by decide)) (hJ _ (by decide))) hp (nI f)
      have emv : zmv2 (pnf P) (pnb P) J5 = zmv2 (pnf P) (pnb P) I := zmv2_cg fun x k hk => by rw [hJ x (by intro e; subst e; simp [zmok] at hk)]
      rw [emv] at hbi
      have hbo := F_bitsOf_ok (v := zbn (fun k => decide (zmv2 (pnf P) (pnb P) I 4 k = nI f)) (pnb P)) (Nat.lt_of_lt_of_le (zbn_lt _ _) (Nat.le_trans (Nat.pow_le_pow_right (by decide) hnb) (by decide : 2 ^ 6 ≤ 64))) J5
      have hoth := sp_oth_pc (S := zmv2 (pnf P) (pnb P) I) hb hnb
      rw [e4] at hoth
      obtain ⟨J7, hv, hvr⟩ := hev (zu J5 1884 6 (sp_oth (pnb P) (zmv2 (pnf P) (pnb P) I) b)) (by rw [rd _ (by decide)]; exact hJ _ (by decide)) (by rw [rd _ (by decide)]; exact hJ _ (by decide))
      have hw : h (zu J5 1884 6 (sp_oth (pnb P) (zmv2 (pnf P) (pnb P) I) b) 1884) = sp_want P (zmv2 (pnf P) (pnb P) I) b f := by
        unfold sp_want
        rw [hph]
        refine hp.2.2.2.2.2.2 h hph _ _ fun k hk => ?_
        match k, hk with
        | 0, _ => show _ = zmv2 _ _ I 3 b; rw [zmv23 hb]; simp [J5, zu]
        | 1, _ => show _ = zmv2 _ _ I 0 f; rw [zmv20 hf]; simp [J5, zu]
        | 2, _ => show _ = zmv2 _ _ I 7 b; rw [zmv27 hb]; simp [J5, zu]
        | 3, _ => show _ = ptax P * zmv2 _ _ I 5 b; rw [zmv25 hb, ← m4]; simp [J5, zu]
        | 4, _ => show _ = I 1860 34; simp [J5, zu]
        | 5, _ => show _ = zmv2 _ _ I 6 b; rw [zmv26 hb]; simp [J5, zu]
        | 6, _ => exact zu_same
        | k + 7, hk => omega
      refine ⟨J7, ?_, fun x h4 h5 => by rw [hvr x h5, rd x h4]; exact hJ x h4⟩
      rw [← hw]
      have r1 : ∀ J : zId, ∀ i v, zu J 1884 i v 1875 = J 1875 := rd _ (by decide)
      have r2 : ∀ J : zId, ∀ i v, zu J 1884 i v 1881 = J 1881 := rd _ (by decide)
      have r3 : ∀ J : zId, ∀ i v, zu J 1884 i v 1862 = J 1862 := rd _ (by decide)
      have r4 : ∀ J : zId, ∀ i v, zu J 1884 i v 1879 = J 1879 := rd _ (by decide)
      have r5 : ∀ J : zId, ∀ i v, zu J 1884 i v 1860 = J 1860 := rd _ (by decide)
      have r6 : ∀ J : zId, ∀ i v, zu J 1884 i v 1880 = J 1880 := rd _ (by decide)
      simp only [F_X7_takes, F_X7_due, zb, zb2, cb, zg_true, zlet_e, e4', zf, cf, if_pos c1, if_neg hs, zb1_e, r1, r2, r3, r4, r5, r6]
      rw [show (zu (zu (zu (zu (zu (zu I 1884 0 (I 1868 b)) 1884 1 (I 1875 f)) 1884 2 (I 1881 b)) 1884 3 (I 1862 4 * I 1879 b)) 1884 4 (I 1860 34)) 1884 5 (I 1880 b)) = J5 from rfl, hbi]
      simp only [zb1_e, hbo, ← hoth, hv, zb2_e]
      have e7 : J7 1875 = I 1875 := by rw [hvr _ (by decide), rd _ (by decide)]; exact hJ _ (by decide)
      rw [e7]
  · rw [if_neg c1]
    refine ⟨I, ?_, fun x _ _ => rfl⟩
    simp only [F_X7_takes, zb, cb, zg_true, zlet_e, e4', zf, cf, if_neg c1]
set_option maxHeartbeats 1000000 in
theorem F7_hunt_ok (hM : zML I P) (hp : pInv P) (hi : sInv P (zmv2 (pnf P) (pnb P) I)) {b : Nat} (hb : b < pnb P) : ∃ I', F_X7_hunt (nI b) I = some I' ∧ zmv2 (pnf P) (pnb P) I' = sp_hu P (zmv2 (pnf P) (pnb P) I) b ∧ I' 1860 41 = sp_hl P (zmv2 (pnf P) (pnb P) I) b (I 1860 41) ∧ zmfr I I' := by
  obtain ⟨J, hJ, hfr⟩ := F7_takes_ok hM hp hi hb
  obtain ⟨e4, hf⟩ := hi.at' hp hb
  have hm := sp_tkf_rg (P := P) (b := b) (hi.2 _ hf).1.1
  have hnb := hp.2.1
  have hnf := hp.1
  have ecv : zmv2 (pnf P) (pnb P) J = zmv2 (pnf P) (pnb P) I := zmv2_cg fun x k hk => by rw [hfr x (by intro e; subst e; simp [zmok] at hk) (by intro e; subst e; simp [zmok] at hk)]
  have hfz : zmfr I J := fun x k hk => by rw [hfr x (by intro e; subst e; simp [zdyn] at hk) (by intro e; subst e; simp [zdyn] at hk)]
  unfold sp_hu sp_hl sp_tk at *
  generalize sp_f (zmv2 (pnf P) (pnb P) I) b = f at *
  generalize sp_tkf P (zmv2 (pnf P) (pnb P) I) b f = m at *
  rw [zmv24 hb] at e4 ⊢
  have zb := zin_n (show b < 6 by omega)
  have cb := nI_c (show b < 2147483648 by omega)
  have zf := zin_n (show f < 8 by omega)
  have cf := nI_c (show f < 2147483648 by omega)
  unfold sp_huf sp_hlf
  have e60 : J 1860 = I 1860 := hfr _ (by decide) (by decide)
  by_cases c : m = 0
  · rw [if_pos c, if_pos c]
    refine ⟨J, ?_, ecv, by rw [e60], hfz⟩
    simp only [F_X7_hunt, zb, cb, zg_true, zlet_e, hJ, zb2_e, c, not_true_eq_false, if_false]
  · rw [if_neg c, if_neg c]
    have e5 : J 1875 = I 1875 := hfr _ (by decide) (by decide)
    have e6 : J 1876 = I 1876 := hfr _ (by decide) (by decide)
    have e8 : J 1880 = I 1880 := hfr _ (by decide) (by decide)
    have hs0 : ¬ J 1875 f = 0 := by
      rw [e5]
      rw [zmv20 hf] at hm
      intro e
      rw [e] at hm
      exact c (i_ext (by unfold rg at hm; have : (0 : Int32).toInt = 0 := rfl; omega))
    have hs0' : (!(decide (J 1875 f = 0))) = true := by rw [decide_eq_false hs0]; rfl
    rw [zmv20 hf, zmv21 hf, zmv26 hb, ← e5, ← e6, ← e8, ← ecv, ← e60]
    by_cases c2 : J 1876 f * m / J 1875 f ≤ 0
    · rw [if_pos c2]
      refine ⟨zu (zu (zu J 1876 f (J 1876 f - J 1876 f * m / J 1875 f)) 1875 f (J 1875 f - m)) 1880 b (zmin 9999 (J 1880 b + m)), ?_, ?_, ?_, ?_⟩
      · simp (decide := true) only [F_X7_hunt, zb, cb, zg_true, zlet_e, hJ, zb2_e, if_pos c, e4, zf, cf, hs0', if_pos c2, zu_row, ne_eq]
      · rw [zmvu6 hb, zmvu0 hf, zmvu1 hf]
        congr 1
        funext r j
        simp only [zu]
        by_cases h1 : r = 0 ∧ j = f
        · rw [if_pos h1, if_neg (by omega), if_pos h1]
        · rw [if_neg h1]
          by_cases h2 : r = 1 ∧ j = f
          · rw [if_pos h2, if_pos h2]
          · rw [if_neg h2, if_neg h2, if_neg h1]
      · simp (decide := true) only [zu_row, ne_eq]
      · exact ((hfz.zu (by simp [zdyn])).zu (by simp [zdyn])).zu (by simp [zdyn])
    · rw [if_neg c2]
      refine ⟨zu (zu (zu (zu J 1860 41 (nI f)) 1876 f (J 1876 f - J 1876 f * m / J 1875 f)) 1875 f (J 1875 f - m)) 1880 b (zmin 9999 (J 1880 b + m)), ?_, ?_, ?_, ?_⟩
      · simp (decide := true) only [F_X7_hunt, zb, cb, zg_true, zlet_e, hJ, zb2_e, if_pos c, e4, zf, cf, hs0', if_neg c2, zu_row, ne_eq]
      · rw [zmvu6 hb, zmvu0 hf, zmvu1 hf, zmv2_u41]
        congr 1
        funext r j
        simp only [zu]
        by_cases h1 : r = 0 ∧ j = f
        · rw [if_pos h1, if_neg (by omega), if_pos h1]
        · rw [if_neg h1]
          by_cases h2 : r = 1 ∧ j = f
          · rw [if_pos h2, if_pos h2]
          · rw [if_neg h2, if_neg h2, if_neg h1]
      · simp (decide := true) only [zu_row, ne_eq, zu_same]
        exact e4.symm
      · exact (((hfz.zu (by simp [zdyn])).zu (by simp [zdyn])).zu (by simp [zdyn])).zu (by simp [zdyn])
set_option maxHeartbeats 1000000 in
theorem F7_pay_ok (hM : zML I P) (hp : pInv P) {b : Nat} (hb : b < pnb P) : ∃ I', F_X7_pay (nI b) I = some I' ∧ zmv2 (pnf P) (pnb P) I' = sp_pa P (zmv2 (pnf P) (pnb P) I) b ∧ I' 1860 41 = I 1860 41 ∧ zmfr I I' := by
  obtain ⟨m0, m2, m4, m5, m6, mr, mh0, mh1⟩ := hM
  have hnb := hp.2.1
  have zb := zin_n (show b < 6 by omega)
  have cb := nI_c (show b < 2147483648 by omega)
  have ed : sp_due P (zmv2 (pnf P) (pnb P) I) b = I 1862 4 * I 1879 b + I 1881 b := by unfold sp_due; rw [zmv25 hb, zmv27 hb, m4]
  have ep : sp_py P (zmv2 (pnf P) (pnb P) I) b = zmin (I 1862 4 * I 1879 b + I 1881 b) (I 1880 b) := by unfold sp_py; rw [zmv26 hb, ed, zmin_comm]
  have eo : sp_ow P (zmv2 (pnf P) (pnb P) I) b = zmin 9999 ((I 1862 4 * I 1879 b + I 1881 b) - zmin (I 1862 4 * I 1879 b + I 1881 b) (I 1880 b)) := by unfold sp_ow; rw [ed, ep]
  have eh : sp_hf P (zmv2 (pnf P) (pnb P) I) b = (zmin 9999 ((I 1862 4 * I 1879 b + I 1881 b) - zmin (I 1862 4 * I 1879 b + I 1881 b) (I 1880 b)) - I 1862 6) / 2 := by unfold sp_hf; rw [eo, m6]
  unfold sp_pa
  rw [eh, eo, ep, zmv26 hb, zmv28 hb, zmv291, zmv292, ← m6, ← m5]
  generalize hdu : I 1862 4 * I 1879 b + I 1881 b = du
  generalize hpy : zmin du (I 1880 b) = py
  generalize how : zmin 9999 (du - py) = ow
  by_cases c : I 1862 6 < ow
  · rw [if_pos c]
    refine ⟨zu (zu (zu (zu (zu (zu I 1880 b (I 1880 b - py)) 1860 35 (I 1860 35 + py)) 1881 b ow) 1860 36 (I 1860 36 + (I 1862 5 * ((ow - I 1862 6) / 2)))) 1881 b (ow - (ow - I 1862 6) / 2)) 1882 b (I 1882 b + 1), ?_, ?_, ?_, ?_⟩
    · simp (decide := true) only [F_X7_pay, F_X7_due, zb, cb, zg_true, zlet_e, zb1_e, hdu, hpy, how, zu_same, zu_row, zu_off, ne_eq, if_pos c, false_and, and_false]
    · rw [zmvu8 hb, zmvu7 hb, zmvu92, zmvu7 hb, zmvu91, zmvu6 hb, Int32.mul_comm (I 1862 5)]
    · simp (decide := true) only [zu_row, zu_off, ne_eq]
    · exact (((((zmfr.rf.zu (by simp [zdyn])).zu (by simp [zdyn])).zu (by simp [zdyn])).zu (by simp [zdyn])).zu (by simp [zdyn])).zu (by simp [zdyn])
  · rw [if_neg c]
    refine ⟨zu (zu (zu I 1880 b (I 1880 b - py)) 1860 35 (I 1860 35 + py)) 1881 b ow, ?_, ?_, ?_, ?_⟩
    · simp (decide := true) only [F_X7_pay, F_X7_due, zb, cb, zg_true, zlet_e, zb1_e, hdu, hpy, how, zu_same, zu_row, zu_off, ne_eq, if_neg c]
    · rw [zmvu7 hb, zmvu91, zmvu6 hb]
    · simp (decide := true) only [zu_row, zu_off, ne_eq]
    · exact ((zmfr.rf.zu (by simp [zdyn])).zu (by simp [zdyn])).zu (by simp [zdyn])
end L09
