/-! L49: the whole of the model: book, image, tape, fault -/
/-- an image -/
def zMI (I : zId) (nf nb : Nat) (m : zBk) : Prop := I 1860 55 = nI (bA m) ∧ I 1860 56 = nI (bSp m).1 ∧ zrv nf nb (I 1868) (I 1896) 0 = bS m ∧ (∀ k, k < bA m → zrv nf nb (I 1868) (I 1897) (57 * k) = bP m k) ∧ (∀ k, k < (bSp m).1 → I 1898 k = nI ((bSp m).2.1 k) ∧ I 1899 k = (bSp m).2.2.1 k ∧ I 1900 k = (bSp m).2.2.2 k) ∧ ∀ i, i < 3 → I 1901 i = bR m i
def zMW (I : zId) (P : zP) (X : zXd) (b : zBk) (m : Bool × zBk) (t : zTp) (ft : Int32) : Prop :=
  zMB I P X b ∧ (I 1860 54 = (if m.1 = true then 1 else 0) ∧ (m.1 = true → zMI I (pnf P) (pnb P) m.2)) ∧ (I 1860 15 = nI t.1 ∧ ∀ k, k < t.1 → I 1874 k = t.2 k) ∧ I 1860 24 = ft
theorem zMI.cg {I J : zId} {nf nb : Nat} {m : zBk} (hf : nf ≤ 8) (hb : nb ≤ 6) (h : zMI I nf nb m) (r : ∀ x, 1896 ≤ x → x ≤ 1901 → J x = I x) (r0 : ∀ k, k = 55 ∨ k = 56 → J 1860 k = I 1860 k) (r8 : ∀ j, j < nb → J 1868 j = I 1868 j) : zMI J nf nb m := by
  obtain ⟨h1, h2, h3, h4, h5, h6⟩ := h
  refine ⟨by rw [r0 _ (Or.inl rfl)]; exact h1, by rw [r0 _ (Or.inr rfl)]; exact h2, ?_, fun k hk => ?_, fun k hk => ?_, fun i hi => by rw [r _ (by decide) (by decide)]; exact h6 i hi⟩
  · rw [← h3]
    exact zrv_cg hf hb r8 fun i hi => by rw [r _ (by decide) (by decide)]
  · rw [← h4 k hk]
    exact zrv_cg hf hb r8 fun i hi => by rw [r _ (by decide) (by decide)]
  · rw [r _ (by decide) (by decide), r _ (by decide) (by decide), r _ (by decide) (by decide)]
    exact h5 k hk
section L49
variable {I J : zId} {P : zP} {X : zXd} {b b' : zBk} {m : Bool × zBk} {t : zTp} {ft : Int32}
theorem zMW.q (hp : pInv P) (h : zMW I P X b m t ft) (e : zmf I J) (hS : zmv2 (pnf P) (pnb P) J = zmv2 (pnf P) (pnb P) I) : zMW J P X b m t ft := by
  obtain ⟨h1, ⟨h2, h3⟩, ⟨h4, h5⟩, h6⟩ := h
  have r0 : ∀ k, k = 55 ∨ k = 56 ∨ k = 54 ∨ k = 15 ∨ k = 24 → J 1860 k = I 1860 k := fun k hk => e 1860 k (by
    rcases hk with rfl | rfl | rfl | rfl | rfl <;> simp [zmsc])
  refine ⟨h1.q hp e hS, ⟨by rw [r0 _ (by omega)]; exact h2, fun hm => (h3 hm).cg hp.1 hp.2.1 (fun x p q => e.row fun k => ?_) (fun k hk => r0 k (by omega)) fun j hj => ?_⟩, ⟨by rw [r0 _ (by omega)]; exact h4, fun k hk => by rw [e 1874 k (by simp [zmsc])]; exact h5 k hk⟩, by rw [r0 _ (by omega)]; exact h6⟩
  · simp only [zmsc, Bool.or_eq_false_iff, Bool.and_eq_false_iff, decide_eq_false_iff_not, beq_eq_false_iff_ne, ne_eq]
    omega
  · rw [← zmv23 (nf := pnf P) (I := J) hj, ← zmv23 (nf := pnf P) (I := I) hj, hS]
theorem zMW.act (hp : pInv P) (h : zMW I P X b m t ft) (h' : zMB J P X b') (e : zma I J) : zMW J P X b' m t ft := by
  obtain ⟨h1, ⟨h2, h3⟩, ⟨h4, h5⟩, h6⟩ := h
  have r0 : ∀ k, k = 55 ∨ k = 56 ∨ k = 54 ∨ k = 15 ∨ k = 24 → J 1860 k = I 1860 k := fun k hk => e 1860 k (by
    rcases hk with rfl | rfl | rfl | rfl | rfl <;> simp [zmac])
  refine ⟨h', ⟨by rw [r0 _ (by omega)]; exact h2, fun hm => (h3 hm).cg hp.1 hp.2.1 (fun x p q => e.row fun k => zmac_no (by omega) (by omega)) (fun k hk => r0 k (by omega)) fun j hj => by rw [e.r68]⟩, ⟨by rw [r0 _ (by omega)]; exact h4, fun k hk => by rw [e 1874 k (by simp [zmac])]; exact h5 k hk⟩, by rw [r0 _ (by omega)]; exact h6⟩
theorem zMW.c1 (hp : pInv P) (h : zMW I P X b m t ft) {v : Int32} : zMW (zu I 1860 1 v) P X b m t ft := h.q hp zmf_c1 zmv2_c1
theorem F7_fault_ok (hp : pInv P) (h : zMW I P X b m t ft) : ∃ J, F_X7_fault I = some (ft, J) ∧ zMW J P X b m t ft := by
  have h1 := h.c1 hp (v := 0)
  refine ⟨_, ?_, h1⟩
  have e := h1.2.2.2
  simp only [F_X7_fault, ↓reduceIte, zg_true, zb1_e, zb2_e, zb3_e, zsum, zlet_e, nI_1, e]
theorem F7_copy_ok {a0 a1 n0 : Nat} (hn : n0 < 100000) (ha : a0 ≠ a1) : ∃ J, F_X7_copyTo a0 n0 a1 n0 I = some J ∧ (∀ x, x ≠ a0 → J x = I x) ∧ ∀ k, k < n0 → J a0 k = I a1 k := by
  have s := zloop_up (body := fun s : Int32 × zId => F_X7_copyTo_L2 a0 n0 a1 n0 s.1 s.2) (fun i s => s.1 = nI i ∧ (∀ x, x ≠ a0 → s.2 x = I x) ∧ ∀ k, k < i → s.2 a0 k = I a1 k) (fun t => (∀ x, x ≠ a0 → t x = I x) ∧ ∀ k, k < n0 → t a0 k = I a1 k) n0 ?_ ?_ 0 (0, I) (Nat.zero_le _) ⟨rfl, fun _ _ => rfl, fun k hk => absurd hk (Nat.not_lt_zero k)⟩
  · obtain ⟨J, h1, h2⟩ := s
    exact ⟨J, by simp only [F_X7_copyTo, h1, zb1_e], h2⟩
  · rintro i ⟨_, J⟩ hi ⟨rfl, e1, e2⟩
    dsimp only at e1 e2
    refine Or.inl ⟨(nI (i + 1), zu J a0 i (J a1 i)), ?_, rfl, fun x hx => by dsimp only; rw [zu_row hx]; exact e1 x hx, fun k hk => ?_⟩
    · dsimp only
      simp only [F_X7_copyTo_L2, nI_ge hi (show n0 < 2 ^ 31 by omega), ↓reduceIte, zg_true, zb1_e, zb2_e, zb3_e, zsum, zlet_e, nI_1, zin_n (show i < n0 from hi) (show n0 < 2 ^ 31 by omega), nI_c (show i < 2147483648 by omega)]
    · dsimp only
      by_cases c : k = i
      · subst c
        rw [zu_same, e1 _ (Ne.symm ha)]
      · rw [zu_off (by omega)]
        exact e2 k (by omega)
  · rintro ⟨_, J⟩ ⟨rfl, e1, e2⟩
    refine ⟨J, ?_, e1, e2⟩
    dsimp only
    simp only [F_X7_copyTo_L2, ↓reduceIte, nI_le (Nat.le_refl (n0)) (show n0 < 2 ^ 31 by omega)]
theorem F7_image_ok (hp : pInv P) (h : zMW I P X b m t ft) (hb : bOk P b) : ∃ J, F_X7_image I = some J ∧ zMW J P X b (true, b) t ft ∧ ∀ x, (x < 1860 ∨ 1901 < x) → J x = I x := by
  have h0 := h.c1 hp (v := 0)
  let I3 := zu (zu (zu (zu I 1860 1 0) 1860 54 1) 1860 55 (zu (zu I 1860 1 0) 1860 54 1 1860 37)) 1860 56 (zu (zu (zu I 1860 1 0) 1860 54 1) 1860 55 (zu (zu I 1860 1 0) 1860 54 1 1860 37) 1860 38)
  have z0 : ∀ x, x ≠ 1860 → I3 x = zu I 1860 1 0 x := fun x hx => by
    show zu (zu (zu (zu I 1860 1 0) _ _ _) _ _ _) _ _ _ x = _
    rw [zu_row hx, zu_row hx, zu_row hx]
  have z1 : ∀ k, k < 54 → I3 1860 k = zu I 1860 1 0 1860 k := fun k hk => by
    show zu (zu (zu (zu I 1860 1 0) _ _ _) _ _ _) _ _ _ 1860 k = _
    rw [zu_off (by omega), zu_off (by omega), zu_off (by omega)]
  obtain ⟨J0, g0, p0⟩ := F7_pack_ok (I := I3) (a0 := 1896) (n0 := 57) (fr := 0) (by decide) (by decide) (by decide)
  obtain ⟨J1, g1, r1, c1⟩ := F7_copy_ok (I := J0) (a0 := 1897) (a1 := 1883) (n0 := 2280) (by decide) (by decide)
  obtain ⟨J2, g2, r2, c2⟩ := F7_copy_ok (I := J1) (a0 := 1898) (a1 := 1890) (n0 := 8) (by decide) (by decide)
  obtain ⟨J3, g3, r3, c3⟩ := F7_copy_ok (I := J2) (a0 := 1899) (a1 := 1891) (n0 := 8) (by decide) (by decide)
  obtain ⟨J4, g4, r4, c4⟩ := F7_copy_ok (I := J3) (a0 := 1900) (a1 := 1892) (n0 := 8) (by decide) (by decide)
  obtain ⟨J5, g5, r5, c5⟩ := F7_copy_ok (I := J4) (a0 := 1901) (a1 := 1873) (n0 := 3) (by decide) (by decide)
  have R : ∀ x, (x < 1896 ∨ 1901 < x) → J5 x = I3 x := fun x hx => by
    rw [r5 x (by omega), r4 x (by omega), r3 x (by omega), r2 x (by omega), r1 x (by omega), p0.1 x (by omega)]
  obtain ⟨⟨q1, q2, q3, q4, ⟨q5, q5b⟩, q6⟩, ⟨h2, h3⟩, ⟨h4, h5⟩, h6⟩ := h0
  have m0 : zmv2 (pnf P) (pnb P) I3 = bS b := by
    rw [← q2]
    refine zmv2_cg fun x k hk => ?_
    by_cases c : x = 1860
    · subst c
      refine z1 k ?_
      simp only [zmok, Bool.or_eq_true, Bool.and_eq_true, decide_eq_true_eq, beq_iff_eq] at hk
      omega
    · rw [z0 x c]
  have mJ : zmv2 (pnf P) (pnb P) J5 = bS b := by
    rw [← m0]
    refine zmv2_cg fun x k hk => ?_
    rw [R x (by simp only [zmok, Bool.or_eq_true, Bool.and_eq_true, decide_eq_true_eq, beq_iff_eq] at hk; omega)]
  have e68 : J5 1868 = zu I 1860 1 0 1868 := by rw [R _ (by decide), z0 _ (by decide)]
  have RR : ∀ x, (x < 1896 ∨ 1901 < x) → x ≠ 1860 → J5 x = zu I 1860 1 0 x := fun x p q => by rw [R x p, z0 x q]
  have R0 : ∀ k, k < 54 → J5 1860 k = zu I 1860 1 0 1860 k := fun k hk => by rw [R _ (by decide), z1 k hk]
  have hQ : zMQ J5 P X := by
    obtain ⟨w1, w2, w3, w4, w5⟩ := q1
    exact ⟨w1.cg (RR _ (by decide) (by decide)) (RR _ (by decide) (by decide)) (RR _ (by decide) (by decide)) (RR _ (by decide) (by decide)), by rw [RR _ (by decide) (by decide)]; exact w2, by rw [RR _ (by decide) (by decide)]; exact w3, by rw [RR _ (by decide) (by decide)]; exact w4, by rw [RR _ (by decide) (by decide)]; exact w5⟩
  refine ⟨J5, ?_, ⟨⟨hQ, mJ, by rw [R0 _ (by decide)]; exact q3, fun k hk => by rw [e68, RR _ (by decide) (by decide)]; exact q4 k hk, ⟨by rw [R0 _ (by decide)]; exact q5, fun k hk => by rw [RR _ (by decide) (by decide), RR _ (by decide) (by decide), RR _ (by decide) (by decide)]; exact q5b k hk⟩, fun i hi => by rw [RR _ (by decide) (by decide)]; exact q6 i hi⟩, ⟨?_, fun _ => ⟨?_, ?_, ?_, fun k hk => ?_, fun k hk => ?_, fun i hi => ?_⟩⟩, ⟨by rw [R0 _ (by decide)]; exact h4, fun k hk => by rw [RR _ (by decide) (by decide)]; exact h5 k hk⟩, by rw [R0 _ (by decide)]; exact h6⟩, fun x hx => (RR x (by omega) (by omega)).trans (zu_row (by omega))⟩
  · have j3 : zu (zu (zu (zu I 1860 1 0) 1860 54 1) 1860 55 (zu (zu I 1860 1 0) 1860 54 1 1860 37)) 1860 56 (zu (zu (zu I 1860 1 0) 1860 54 1) 1860 55 (zu (zu I 1860 1 0) 1860 54 1 1860 37) 1860 38) = I3 := rfl
    rw [show nI 0 = 0 from rfl] at g0
    simp only [F_X7_image, ↓reduceIte, zg_true, zb1_e, zb2_e, zb3_e, zsum, zlet_e, nI_1, j3, g0, g1, g2, g3, g4, g5]
  · rw [R _ (by decide)]
    show zu (zu (zu (zu I 1860 1 0) _ _ _) _ _ _) _ _ _ 1860 54 = _
    rw [zu_off (by omega), zu_off (by omega), zu_same]
    rfl
  · rw [R _ (by decide)]
    show zu (zu (zu (zu I 1860 1 0) _ _ _) _ _ _) _ _ _ 1860 55 = _
    rw [zu_off (by omega), zu_same, zu_off (by omega)]
    exact q3
  · rw [R _ (by decide)]
    show zu (zu (zu (zu I 1860 1 0) _ _ _) _ _ _) _ _ _ 1860 56 = _
    rw [zu_same, zu_off (by omega), zu_off (by omega)]
    exact q5
  · rw [r5 1896 (by decide), r4 1896 (by decide), r3 1896 (by decide), r2 1896 (by decide), r1 1896 (by decide), e68]
    show _ = bS b
    rw [← m0]
    exact p0.rv hp.1 hp.2.1 _ fun j hj => by rw [z0 1868 (by decide)]
  · show _ = bP b k
    have hk' : k < bA b := hk
    have := hb.1.1
    rw [← q4 k hk', e68]
    refine zrv_cg hp.1 hp.2.1 (fun _ _ => rfl) fun i hi => ?_
    rw [r5 1897 (by decide), r4 1897 (by decide), r3 1897 (by decide), r2 1897 (by decide), c1 _ (by omega), p0.1 1883 (by decide), z0 1883 (by decide)]
  · have hk' : k < (bSp b).1 := hk
    have h8 := hb.2.1
    rw [r5 1898 (by decide), r4 1898 (by decide), r3 1898 (by decide), c2 k (by omega), r5 1899 (by decide), r4 1899 (by decide), c3 k (by omega), r5 1900 (by decide), c4 k (by omega), r1 1890 (by decide), r2 1891 (by decide), r1 1891 (by decide), r3 1892 (by decide), r2 1892 (by decide), r1 1892 (by decide), p0.1 1890 (by decide), p0.1 1891 (by decide), p0.1 1892 (by decide), z0 1890 (by decide), z0 1891 (by decide), z0 1892 (by decide)]
    exact q5b k hk'
  · show _ = bR b i
    rw [c5 i hi, r4 1873 (by decide), r3 1873 (by decide), r2 1873 (by decide), r1 1873 (by decide), p0.1 1873 (by decide), z0 1873 (by decide)]
    exact q6 i hi
end L49
