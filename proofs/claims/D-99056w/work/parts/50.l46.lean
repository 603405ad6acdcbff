/-! L46: the model's book -/
def zMB (I : zId) (P : zP) (X : zXd) (b : zBk) : Prop := zMQ I P X ∧ zmv2 (pnf P) (pnb P) I = bS b ∧ I 1860 37 = nI (bA b) ∧ (∀ k, k < bA b → zrv (pnf P) (pnb P) (I 1868) (I 1883) (57 * k) = bP b k) ∧ zMSp I (bSp b) ∧ ∀ i, i < 3 → I 1873 i = bR b i
/-- cells that an act of the model may write -/
def zmac (x k : Nat) : Bool := (1875 ≤ x && x ≤ 1882) || x == 1873 || x == 1883 || x == 1884 || x == 1885 || (1890 ≤ x && x ≤ 1892) || (x == 1860 && (k == 1 || (34 ≤ k && k < 39) || k == 41))
def zma (I I' : zId) : Prop := ∀ x k, zmac x k = false → I' x k = I x k
theorem zma.rf {I : zId} : zma I I := fun _ _ _ => rfl
theorem zma.tr {I J L : zId} (h1 : zma I J) (h2 : zma J L) : zma I L := fun x k h => (h2 x k h).trans (h1 x k h)
theorem zma.zu {I J : zId} {x k : Nat} {v : Int32} (h : zma I J) (hd : zmac x k = true) : zma I (zu J x k v) := fun y j hy => by
  rw [zu_off fun q => by obtain ⟨rfl, rfl⟩ := q; rw [hd] at hy; cases hy]
  exact h y j hy
theorem zma.row {I J : zId} (h : zma I J) {x : Nat} (hx : ∀ k, zmac x k = false) : J x = I x := funext fun k => h x k (hx k)
theorem zmac_no {x k : Nat} (h1 : x < 1873 ∨ x = 1874 ∨ (1885 < x ∧ x < 1890) ∨ 1892 < x) (h2 : x ≠ 1860) : zmac x k = false := by
  simp only [zmac, Bool.or_eq_false_iff, Bool.and_eq_false_iff, decide_eq_false_iff_not, beq_eq_false_iff_ne, ne_eq]
  omega
theorem zmfr.ma {I J : zId} (h : zmfr I J) : zma I J := fun x k hx => h x k (by
  simp only [zmac, zdyn, Bool.or_eq_false_iff, Bool.and_eq_false_iff, decide_eq_false_iff_not, beq_eq_false_iff_ne, ne_eq] at hx ⊢
  omega)
theorem zrv_cg {nf nb : Nat} {B B' R R' : Nat → Int32} {fr fr' : Nat} (hf : nf ≤ 8) (hb : nb ≤ 6) (h1 : ∀ j, j < nb → B j = B' j) (h2 : ∀ i, i < 57 → R (fr + i) = R' (fr' + i)) : zrv nf nb B R fr = zrv nf nb B' R' fr' := by
  funext r j
  unfold zrv
  split
  · rename_i hj
    unfold zlm at hj
    by_cases c1 : r < 3
    · rw [if_pos c1] at hj
      rw [if_pos c1, if_pos c1, show fr + 3 + 8 * r + j = fr + (3 + 8 * r + j) by omega, show fr' + 3 + 8 * r + j = fr' + (3 + 8 * r + j) by omega]
      exact h2 _ (by omega)
    · rw [if_neg c1] at hj
      rw [if_neg c1, if_neg c1]
      by_cases c2 : r = 3
      · rw [if_pos (by omega)] at hj
        rw [if_pos c2, if_pos c2]
        exact h1 j hj
      · rw [if_neg c2, if_neg c2]
        by_cases c3 : r < 9
        · rw [if_pos c3] at hj
          rw [if_pos c3, if_pos c3, show fr + 27 + 6 * (r - 4) + j = fr + (27 + 6 * (r - 4) + j) by omega, show fr' + 27 + 6 * (r - 4) + j = fr' + (27 + 6 * (r - 4) + j) by omega]
          exact h2 _ (by omega)
        · rw [if_neg c3] at hj
          rw [if_neg c3, if_neg c3]
          refine h2 j ?_
          split at hj <;> omega
  · rfl
section L46
variable {I J : zId} {P : zP} {X : zXd} {b b' : zBk}
theorem zML.ma (h : zML I P) (e : zma I J) : zML J P := h.cg (e.row fun k => zmac_no (by omega) (by omega)) (e.row fun k => zmac_no (by omega) (by omega)) (e.row fun k => zmac_no (by omega) (by omega)) (e.row fun k => zmac_no (by omega) (by omega))
theorem zMQ.ma (h : zMQ I P X) (e : zma I J) : zMQ J P X := by
  obtain ⟨h1, h2, h3, h4, h5⟩ := h
  have e2 : J 1862 = I 1862 := e.row fun k => zmac_no (by omega) (by omega)
  have e3 : J 1871 = I 1871 := e.row fun k => zmac_no (by omega) (by omega)
  have e4 : J 1867 = I 1867 := e.row fun k => zmac_no (by omega) (by omega)
  exact ⟨h1.ma e, by rw [e2]; exact h2, by rw [e2]; exact h3, by rw [e3]; exact h4, by rw [e4]; exact h5⟩
theorem zma.r68 (e : zma I J) : J 1868 = I 1868 := e.row fun k => zmac_no (by omega) (by omega)
/-- over what changes the state alone -/
theorem zMB.st (h : zMB I P X b) (e : zma I J) {S : zS} (hS : zmv2 (pnf P) (pnb P) J = S) (e1 : J 1883 = I 1883) (e2 : ∀ k, k = 37 ∨ k = 38 → J 1860 k = I 1860 k) (e3 : J 1890 = I 1890 ∧ J 1891 = I 1891 ∧ J 1892 = I 1892) (e4 : J 1873 = I 1873) : zMB J P X (bSt b S) := by
  obtain ⟨h1, h2, h3, h4, ⟨h5, h5b⟩, h6⟩ := h
  obtain ⟨e3, e3b, e3c⟩ := e3
  refine ⟨h1.ma e, hS, by rw [e2 37 (Or.inl rfl)]; exact h3, fun k hk => by rw [e1, e.r68]; exact h4 k hk, ⟨by rw [e2 38 (Or.inr rfl)]; exact h5, fun k hk => by rw [e3, e3b, e3c]; exact h5b k hk⟩, fun i hi => by rw [e4]; exact h6 i hi⟩
theorem zMB.q (hp : pInv P) (h : zMB I P X b) (e : zmf I J) (hS : zmv2 (pnf P) (pnb P) J = zmv2 (pnf P) (pnb P) I) : zMB J P X b := by
  obtain ⟨h1, h2, h3, h4, ⟨h5, h5b⟩, h6⟩ := h
  have r : ∀ x, x = 1883 ∨ x = 1890 ∨ x = 1891 ∨ x = 1892 ∨ x = 1873 → J x = I x := fun x hx => e.row fun k => by
    simp only [zmsc, Bool.or_eq_false_iff, Bool.and_eq_false_iff, decide_eq_false_iff_not, beq_eq_false_iff_ne, ne_eq]
    omega
  refine ⟨h1.mf e, by rw [hS]; exact h2, by rw [e 1860 37 (by simp [zmsc])]; exact h3, fun k hk => ?_, ⟨by rw [e 1860 38 (by simp [zmsc])]; exact h5, fun k hk => by rw [r _ (by omega), r _ (by omega), r _ (by omega)]; exact h5b k hk⟩, fun i hi => by rw [r _ (by omega)]; exact h6 i hi⟩
  rw [← h4 k hk, r 1883 (by omega)]
  refine zrv_cg hp.1 hp.2.1 (fun j hj => ?_) (fun i hi => rfl)
  rw [← zmv23 (nf := pnf P) (I := J) hj, ← zmv23 (nf := pnf P) (I := I) hj, hS]
theorem F7_refuse_ok (h : zMB I P X b) {i : Nat} (hi : i < 3) : ∃ J, F_X7_refuse (nI i) I = some (-1, J) ∧ J 1860 = I 1860 ∧ zMB J P X (bRef b i) ∧ zma I J := by
  have e : zma I (zu I 1873 i (I 1873 i + 1)) := zma.rf.zu (by simp [zmac])
  refine ⟨zu I 1873 i (I 1873 i + 1), ?_, zu_row (by decide), ?_, e⟩
  · simp only [F_X7_refuse, zin_n (show i < 3 from hi), nI_c (show i < 2147483648 by omega), ↓reduceIte, zg_true, zb1_e, zb2_e, zb3_e, zsum, zlet_e, nI_1]
  · obtain ⟨h1, h2, h3, h4, ⟨h5, h5b⟩, h6⟩ := h
    refine ⟨h1.ma e, by rw [zmvo (by simp [zmok])]; exact h2, by rw [zu_row (by decide)]; exact h3, fun k hk => by rw [zu_row (by decide), zu_row (by decide)]; exact h4 k hk, ⟨by rw [zu_row (by decide)]; exact h5, fun k hk => by rw [zu_row (by decide), zu_row (by decide), zu_row (by decide)]; exact h5b k hk⟩, fun j hj => ?_⟩
    show zu I 1873 i (I 1873 i + 1) 1873 j = if j = i then bR b j + 1 else bR b j
    by_cases c : j = i
    · subst c
      rw [zu_same, if_pos rfl, ← h6 j hj]
    · rw [zu_off (by omega), if_neg c]
      exact h6 j hj
/-- kept at k; what is below is given -/
theorem zMB_keep (hp : pInv P) {I0 : zId} {k : Nat} (hk : k < 40) (hpk : zpkd 1883 (57 * k) I0 J) {bk : Nat → zS} (hb : ∀ i, i < k → zrv (pnf P) (pnb P) (I0 1868) (I0 1883) (57 * i) = bk i) : (∀ i, i < k → zrv (pnf P) (pnb P) (J 1868) (J 1883) (57 * i) = bk i) ∧ zrv (pnf P) (pnb P) (J 1868) (J 1883) (57 * k) = zmv2 (pnf P) (pnb P) I0 := by
  have e68 : J 1868 = I0 1868 := hpk.1 _ (by decide)
  refine ⟨fun i hi => ?_, ?_⟩
  · rw [← hb i hi, e68]
    exact zrv_cg hp.1 hp.2.1 (fun _ _ => rfl) fun x hx => hpk.2.1 _ (by omega)
  · exact hpk.rv hp.1 hp.2.1 _ fun j hj => by rw [e68]
theorem e57 : ∀ k, k < 41 → (57 : Int32) * nI k = nI (57 * k) := by decide
theorem F7_shift_ok : ∃ J, zloop (fun s : Int32 × zId => F_X7_keep_L12 s.1 s.2) (57, I) = some J ∧ (∀ x, x ≠ 1883 → J x = I x) ∧ ∀ k, k < 2223 → J 1883 k = I 1883 (k + 57) := by
  have s := zloop_up (body := fun s : Int32 × zId => F_X7_keep_L12 s.1 s.2) (fun i s => s.1 = nI (i + 57) ∧ (∀ x, x ≠ 1883 → s.2 x = I x) ∧ (∀ k, k < i → s.2 1883 k = I 1883 (k + 57)) ∧ ∀ k, i ≤ k → s.2 1883 k = I 1883 k) (fun t => (∀ x, x ≠ 1883 → t x = I x) ∧ ∀ k, k < 2223 → t 1883 k = I 1883 (k + 57)) 2223 ?_ ?_ 0 (57, I) (Nat.zero_le _) ⟨rfl, fun _ _ => rfl, fun k hk => absurd hk (Nat.not_lt_zero k), fun _ _ => rfl⟩
  · exact s
  · rintro i ⟨_, J⟩ hi ⟨rfl, e1, e2, e3⟩
    dsimp only at e1 e2 e3
    have c57 : nI (i + 57) - 57 = nI i := by
      rw [← nI_add i 57, show nI 57 = 57 from rfl]
      apply Int32.toBitVec_inj.mp
      rw [Int32.toBitVec_sub, Int32.toBitVec_add]
      exact BitVec.add_sub_cancel _ _
    refine Or.inl ⟨(nI (i + 1 + 57), zu J 1883 i (J 1883 (i + 57))), ?_, rfl, fun x hx => by dsimp only; rw [zu_row hx]; exact e1 x hx, fun k hk => ?_, fun k hk => ?_⟩
    · dsimp only
      simp only [F_X7_keep_L12, ↓reduceIte, zg_true, zb1_e, zb2_e, zb3_e, zsum, zlet_e, nI_1, show ¬ (2280 : Int32) ≤ nI (i + 57) from nI_ge (b := 2280) (by omega) (by decide), zin_n (show i + 57 < 2280 by omega), c57, zin_n (show i < 2280 by omega), nI_c (show i < 2147483648 by omega), nI_c (show i + 57 < 2147483648 by omega)]
    · dsimp only
      by_cases c : k = i
      · subst c
        rw [zu_same]
        exact e3 _ (by omega)
      · rw [zu_off (by omega)]
        exact e2 k (by omega)
    · dsimp only
      rw [zu_off (by omega)]
      exact e3 k (by omega)
  · rintro ⟨_, J⟩ ⟨rfl, e1, e2, e3⟩
    refine ⟨J, ?_, e1, e2⟩
    dsimp only
    simp only [F_X7_keep_L12, show (2280 : Int32) ≤ nI (2223 + 57) from by decide, ↓reduceIte]
theorem F7_keep_ok (h : zMB I P X b) (hp : pInv P) (h40 : bA b ≤ 40) : ∃ J, F_X7_keep I = some J ∧ zMB J P X (bKeep b) ∧ zma I J ∧ (∀ x, x ≠ 1883 → x ≠ 1860 → J x = I x) ∧ ∀ k, k ≠ 37 → J 1860 k = I 1860 k := by
  have h0 := h
  obtain ⟨h1, h2, h3, h4, ⟨h5, h5b⟩, h6⟩ := h
  have fin : ∀ J : zId, ∀ bk : zBk, bS bk = bS b → bSp bk = bSp b → bR bk = bR b → (∀ x, x ≠ 1883 → x ≠ 1860 → J x = I x) → (∀ k, k ≠ 37 → J 1860 k = I 1860 k) → J 1860 37 = nI (bA bk) → (∀ k, k < bA bk → zrv (pnf P) (pnb P) (J 1868) (J 1883) (57 * k) = bP bk k) → zMB J P X bk ∧ zma I J := fun J bk q1 q2 q3 r1 r2 r3 r4 => by
    have e : zma I J := fun x k hx => by
      by_cases c : x = 1860
      · subst c
        refine r2 k fun q => ?_
        subst q
        simp [zmac] at hx
      · refine congrFun (r1 x ?_ c) k
        rintro rfl
        simp [zmac] at hx
    refine ⟨⟨h1.ma e, ?_, r3, r4, ⟨?_, fun k hk => ?_⟩, fun i hi => ?_⟩, e⟩
    · rw [q1, ← h2]
      exact zmv2_cg fun x k hk => by
        by_cases c : x = 1860
        · subst c
          refine r2 k fun q => ?_
          subst q
          simp [zmok] at hk
        · refine congrFun (r1 x ?_ c) k
          rintro rfl
          simp [zmok] at hk
    · rw [r2 38 (by decide), q2]; exact h5
    · rw [q2] at hk ⊢
      rw [r1 _ (by decide) (by decide), r1 _ (by decide) (by decide), r1 _ (by decide) (by decide)]
      exact h5b k hk
    · rw [r1 _ (by decide) (by decide), q3]; exact h6 i hi
  by_cases c : bA b = 40
  · obtain ⟨J1, g1, g2, g3⟩ := F7_shift_ok (I := I)
    have g37 : J1 1860 37 = nI 40 := by rw [g2 _ (by decide), h3, c]
    let J2 := zu J1 1860 37 (nI 39)
    obtain ⟨J3, u1, u2⟩ := F7_pack_ok (I := J2) (a0 := 1883) (n0 := 2280) (fr := 57 * 39) (by decide) (by decide) (by decide)
    obtain ⟨w1, w2⟩ := zMB_keep (k := 39) hp (by decide) u2 (bk := fun k => bP b (k + 1)) (fun i hi => by
      rw [← h4 (i + 1) (by omega)]
      have ea : J2 1868 = I 1868 := by
        show zu J1 _ _ _ 1868 = _
        rw [zu_row (by decide), g2 _ (by decide)]
      have eb : J2 1883 = J1 1883 := zu_row (by decide)
      rw [ea, eb]
      refine zrv_cg hp.1 hp.2.1 (fun _ _ => rfl) fun x hx => ?_
      rw [g3 _ (by omega), show 57 * i + x + 57 = 57 * (i + 1) + x by omega])
    have k37 : J3 1860 37 = nI 39 := by rw [u2.1 _ (by decide)]; exact zu_same
    have m2 : zmv2 (pnf P) (pnb P) J2 = bS b := by
      rw [← h2]
      show zmv2 _ _ (zu J1 _ _ _) = _
      rw [zmvo (by simp [zmok])]
      exact zmv2_cg fun x k hk => by rw [g2 x (by rintro rfl; simp [zmok] at hk)]
    obtain ⟨f1, f2⟩ := fin (zu J3 1860 37 (nI 40)) (bKeep b) rfl (by unfold bKeep; rfl) (by unfold bKeep; rfl) (fun x p q => by
      rw [zu_row q, u2.1 x p]
      show zu J1 _ _ _ x = _
      rw [zu_row q, g2 x p]) (fun k hk => by
      rw [zu_off (by omega), u2.1 _ (by decide)]
      show zu J1 _ _ _ 1860 k = _
      rw [zu_off (by omega), g2 _ (by decide)]) (by rw [zu_same]; unfold bKeep; rw [if_pos c]) (fun k hk => by
      unfold bKeep at hk ⊢
      rw [if_pos c] at hk ⊢
      have hk' : k < 40 := hk
      show zrv _ _ (zu J3 _ _ _ 1868) (zu J3 _ _ _ 1883) _ = if k = 39 then bS b else bP b (k + 1)
      rw [zu_row (by decide), zu_row (by decide)]
      by_cases c2 : k = 39
      · subst c2
        rw [if_pos rfl, ← m2]
        exact w2
      · rw [if_neg c2]
        exact w1 k (by omega))
    refine ⟨zu J3 1860 37 (nI 40), ?_, f1, f2, fun x p q => ?_, fun k hk => ?_⟩
    · have n40 : nI 40 = 40 := rfl
      have j2 : zu J1 1860 37 (nI 39) = J2 := rfl
      have e39 : (57 : Int32) * nI 39 = nI (57 * 39) := e57 39 (by decide)
      have i40 : I 1860 37 = 40 := by rw [h3, c]; rfl
      simp only [F_X7_keep, ↓reduceIte, zg_true, zb1_e, zb2_e, zb3_e, zsum, zlet_e, nI_1, i40, not_true_eq_false, g1, g37, show nI 40 - 1 = nI 39 from nI_pred 39, j2, show J2 1860 37 = nI 39 from zu_same, e39, u1, k37]
    · rw [zu_row q, u2.1 x p]
      show zu J1 _ _ _ x = _
      rw [zu_row q, g2 x p]
    · rw [zu_off (by omega), u2.1 _ (by decide)]
      show zu J1 _ _ _ 1860 k = _
      rw [zu_off (by omega), g2 _ (by decide)]
  · have hk40 : bA b < 40 := by omega
    obtain ⟨J3, u1, u2⟩ := F7_pack_ok (I := I) (a0 := 1883) (n0 := 2280) (fr := 57 * bA b) (by omega) (by decide) (by decide)
    obtain ⟨w1, w2⟩ := zMB_keep (k := bA b) hp hk40 u2 h4
    have k37 : J3 1860 37 = nI (bA b) := by rw [u2.1 _ (by decide)]; exact h3
    have r1 : ∀ x, x ≠ 1883 → x ≠ 1860 → zu J3 1860 37 (nI (bA b + 1)) x = I x := fun x p q => by rw [zu_row q, u2.1 x p]
    have r2 : ∀ k, k ≠ 37 → zu J3 1860 37 (nI (bA b + 1)) 1860 k = I 1860 k := fun k hk => by rw [zu_off (by omega), u2.1 _ (by decide)]
    obtain ⟨f1, f2⟩ := fin (zu J3 1860 37 (nI (bA b + 1))) (bKeep b) rfl (by unfold bKeep; rfl) (by unfold bKeep; rfl) r1 r2 (by rw [zu_same]; unfold bKeep; rw [if_neg c]) (fun k hk => by
      unfold bKeep at hk ⊢
      rw [if_neg c] at hk ⊢
      have hk' : k < bA b + 1 := hk
      show zrv _ _ (zu J3 _ _ _ 1868) (zu J3 _ _ _ 1883) _ = if k = bA b then bS b else bP b k
      rw [zu_row (by decide), zu_row (by decide)]
      by_cases c2 : k = bA b
      · subst c2
        rw [if_pos rfl, w2]
        exact h2
      · rw [if_neg c2]
        exact w1 k (by omega))
    refine ⟨zu J3 1860 37 (nI (bA b + 1)), ?_, f1, f2, r1, r2⟩
    have ne : ¬ nI (bA b) = 40 := fun q => c ((nI_eq (b := 40) (by omega) (by decide)).mp q)
    simp only [F_X7_keep, ↓reduceIte, zg_true, zb1_e, zb2_e, zb3_e, zsum, zlet_e, nI_1, h3, ne, not_false_eq_true, e57 (bA b) (by omega), u1, k37]
end L46
