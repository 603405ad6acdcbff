/-! L50: the model: restore, feed -/
section L50
variable {I J : zId} {P : zP} {X : zXd} {b b' : zBk} {m : Bool × zBk} {t : zTp} {ft : Int32}
theorem F7_restore_ok (hp : pInv P) (h : zMW I P X b m t ft) (hb : m.1 = true → bOk P m.2) : ∃ J, F_X7_restore I = some (if m.1 = true then 1 else 0, J) ∧ zMW J P X (if m.1 = true then m.2 else b) m t ft ∧ ∀ x, (x < 1860 ∨ 1901 < x) → J x = I x := by
  have h0 := h.c1 hp (v := 0)
  by_cases hm : m.1 = true
  · rw [if_pos hm, if_pos hm]
    have hO := hb hm
    obtain ⟨⟨q1, q2, q3, q4, ⟨q5, q5b⟩, q6⟩, ⟨h2, h3⟩, ⟨h4, h5⟩, h6⟩ := id h0
    rw [if_pos hm] at h2
    have hI := h3 hm
    obtain ⟨i1, i2, i3, i4, i5, i6⟩ := id hI
    let I1 := zu I 1860 1 0
    let I3 := zu (zu I1 1860 37 (I1 1860 55)) 1860 38 (zu I1 1860 37 (I1 1860 55) 1860 56)
    have z0 : ∀ x, x ≠ 1860 → I3 x = I1 x := fun x hx => by
      show zu (zu I1 _ _ _) _ _ _ x = _
      rw [zu_row hx, zu_row hx]
    have z1 : ∀ k, k ≠ 37 → k ≠ 38 → I3 1860 k = I1 1860 k := fun k p q => by
      show zu (zu I1 _ _ _) _ _ _ 1860 k = _
      rw [zu_off (by omega), zu_off (by omega)]
    obtain ⟨J0, g0, p0⟩ := F7_unpack_ok (I := I3) (a0 := 1896) (n0 := 57) (fr := 0) (by decide) (by decide) (by decide)
    obtain ⟨J1, g1, r1, c1⟩ := F7_copy_ok (I := J0) (a0 := 1883) (a1 := 1897) (n0 := 2280) (by decide) (by decide)
    obtain ⟨J2, g2, r2, c2⟩ := F7_copy_ok (I := J1) (a0 := 1890) (a1 := 1898) (n0 := 8) (by decide) (by decide)
    obtain ⟨J3, g3, r3, c3⟩ := F7_copy_ok (I := J2) (a0 := 1891) (a1 := 1899) (n0 := 8) (by decide) (by decide)
    obtain ⟨J4, g4, r4, c4⟩ := F7_copy_ok (I := J3) (a0 := 1892) (a1 := 1900) (n0 := 8) (by decide) (by decide)
    obtain ⟨J5, g5, r5, c5⟩ := F7_copy_ok (I := J4) (a0 := 1873) (a1 := 1901) (n0 := 3) (by decide) (by decide)
    have R : ∀ x, x ≠ 1883 → x ≠ 1890 → x ≠ 1891 → x ≠ 1892 → x ≠ 1873 → J5 x = J0 x := fun x a1 a2 a3 a4 a5 => by
      rw [r5 x a5, r4 x a4, r3 x a3, r2 x a2, r1 x a1]
    have RR : ∀ x, (x < 1875 ∨ 1882 < x) → x ≠ 1860 → x ≠ 1883 → x ≠ 1890 → x ≠ 1891 → x ≠ 1892 → x ≠ 1873 → J5 x = I1 x := fun x p q a1 a2 a3 a4 a5 => by
      rw [R x a1 a2 a3 a4 a5, p0.1 x p q, z0 x q]
    have R0 : ∀ k, (k < 34 ∨ 38 < k) → J5 1860 k = I1 1860 k := fun k hk => by
      rw [R _ (by decide) (by decide) (by decide) (by decide) (by decide), p0.2.1 k (by omega), z1 k (by omega) (by omega)]
    have e68 : J5 1868 = I1 1868 := RR _ (by decide) (by decide) (by decide) (by decide) (by decide) (by decide) (by decide)
    have hQ : zMQ J5 P X := by
      obtain ⟨w1, w2, w3, w4, w5⟩ := q1
      have a : ∀ x, (1861 ≤ x ∧ x ≤ 1872) → J5 x = I1 x := fun x hx => RR x (by omega) (by omega) (by omega) (by omega) (by omega) (by omega) (by omega)
      exact ⟨w1.cg (a _ (by decide)) (a _ (by decide)) (a _ (by decide)) (a _ (by decide)), by rw [a _ (by decide)]; exact w2, by rw [a _ (by decide)]; exact w3, by rw [a _ (by decide)]; exact w4, by rw [a _ (by decide)]; exact w5⟩
    have mJ0 : zmv2 (pnf P) (pnb P) J0 = bS m.2 := by
      rw [p0.mv hp.1 hp.2.1, z0 1868 (by decide), z0 1896 (by decide)]
      exact i3
    have mJ : zmv2 (pnf P) (pnb P) J5 = bS m.2 := by
      rw [← mJ0]
      refine zmv2_cg fun x k hk => ?_
      simp only [zmok, Bool.or_eq_true, Bool.and_eq_true, decide_eq_true_eq, beq_iff_eq] at hk
      rw [R x (by omega) (by omega) (by omega) (by omega) (by omega)]
    have j0 : ∀ x, 1896 ≤ x → J0 x = I1 x := fun x hx => by rw [p0.1 x (by omega) (by omega), z0 x (by omega)]
    have h8 := hO.2.1
    refine ⟨J5, ?_, ⟨⟨hQ, mJ, ?_, fun k hk => ?_, ⟨?_, fun k hk => ?_⟩, fun i hi => ?_⟩, ⟨?_, fun _ => hI.cg hp.1 hp.2.1 (fun x p q => RR x (by omega) (by omega) (by omega) (by omega) (by omega) (by omega) (by omega)) (fun k hk => R0 k (by omega)) fun j hj => by rw [e68]⟩, ⟨by rw [R0 _ (by omega)]; exact h4, fun k hk => by rw [RR 1874 (by decide) (by decide) (by decide) (by decide) (by decide) (by decide) (by decide)]; exact h5 k hk⟩, by rw [R0 _ (by omega)]; exact h6⟩, fun x hx => (RR x (by omega) (by omega) (by omega) (by omega) (by omega) (by omega) (by omega)).trans (zu_row (by omega))⟩
    · have j3 : zu (zu I1 1860 37 (I1 1860 55)) 1860 38 (zu I1 1860 37 (I1 1860 55) 1860 56) = I3 := rfl
      have j1 : zu I 1860 1 0 = I1 := rfl
      have h2' : I1 1860 54 = 1 := h2
      rw [show nI 0 = 0 from rfl] at g0
      simp only [F_X7_restore, ↓reduceIte, zg_true, zb1_e, zb2_e, zb3_e, zsum, zlet_e, nI_1, j1, h2', n10, not_false_eq_true, j3, g0, g1, g2, g3, g4, g5]
    · rw [R _ (by decide) (by decide) (by decide) (by decide) (by decide), p0.2.1 37 (by omega)]
      show zu (zu I1 _ _ _) _ _ _ 1860 37 = _
      rw [zu_off (by omega), zu_same]
      exact i1
    · have := hO.1.1
      rw [e68, r5 1883 (by decide), r4 1883 (by decide), r3 1883 (by decide), r2 1883 (by decide), ← i4 k hk]
      exact zrv_cg hp.1 hp.2.1 (fun _ _ => rfl) fun i hi => by rw [c1 _ (by omega), j0 _ (by decide)]
    · rw [R _ (by decide) (by decide) (by decide) (by decide) (by decide), p0.2.1 38 (by omega)]
      show zu (zu I1 _ _ _) _ _ _ 1860 38 = _
      rw [zu_same, zu_off (by omega)]
      exact i2
    · rw [r5 1890 (by decide), r4 1890 (by decide), r3 1890 (by decide), c2 k (by omega), r5 1891 (by decide), r4 1891 (by decide), c3 k (by omega), r5 1892 (by decide), c4 k (by omega), r1 1898 (by decide), r2 1899 (by decide), r1 1899 (by decide), r3 1900 (by decide), r2 1900 (by decide), r1 1900 (by decide), j0 _ (by decide), j0 _ (by decide), j0 _ (by decide)]
      exact i5 k hk
    · rw [c5 i hi, r4 1901 (by decide), r3 1901 (by decide), r2 1901 (by decide), r1 1901 (by decide), j0 _ (by decide)]
      exact i6 i hi
    · rw [R0 _ (by omega), if_pos hm]
      exact h2
  · rw [if_neg hm, if_neg hm]
    refine ⟨_, ?_, h0, fun x hx => zu_row (by omega)⟩
    have h2 := h0.2.1.1
    rw [if_neg hm] at h2
    simp only [F_X7_restore, ↓reduceIte, zg_true, zb1_e, zb2_e, zb3_e, zsum, zlet_e, nI_1, h2, not_true_eq_false]
theorem wsl_k {α : Type} (f : Int32 → Option α) (x0 x1 x2 x3 x4 : Int32) {i : Nat} (hi : i < 20) : (if (4 : Int32) ≤ nI i then if (8 : Int32) ≤ nI i then if (12 : Int32) ≤ nI i then if (16 : Int32) ≤ nI i then f x4 else f x3 else f x2 else f x1 else f x0) = f (wsl x0 x1 x2 x3 x4 i) := by
  have h : ∀ c, c < 100 → ((nI c ≤ nI i) ↔ c ≤ i) := fun c hc => nI_leI (by omega) (by omega)
  have h4 : (4 : Int32) ≤ nI i ↔ 4 ≤ i := h 4 (by decide)
  have h8 : (8 : Int32) ≤ nI i ↔ 8 ≤ i := h 8 (by decide)
  have h12 : (12 : Int32) ≤ nI i ↔ 12 ≤ i := h 12 (by decide)
  have h16 : (16 : Int32) ≤ nI i ↔ 16 ≤ i := h 16 (by decide)
  simp only [h4, h8, h12, h16]
  unfold wsl
  rcases (show i < 4 ∨ (4 ≤ i ∧ i < 8) ∨ (8 ≤ i ∧ i < 12) ∨ (12 ≤ i ∧ i < 16) ∨ 16 ≤ i by omega) with q | q | q | q | q
  · rw [if_neg (by omega), if_pos (by omega)]
  · rw [if_pos (by omega), if_neg (by omega), if_neg (by omega), if_pos (by omega)]
  · rw [if_pos (by omega), if_pos (by omega), if_neg (by omega), if_neg (by omega), if_neg (by omega), if_pos (by omega)]
  · rw [if_pos (by omega), if_pos (by omega), if_pos (by omega), if_neg (by omega), if_neg (by omega), if_neg (by omega), if_neg (by omega), if_pos (by omega)]
  · rw [if_pos (by omega), if_pos (by omega), if_pos (by omega), if_pos (by omega), if_neg (by omega), if_neg (by omega), if_neg (by omega), if_neg (by omega)]
theorem wby_k : ∀ i, i < 20 → ((24 : Int32) - 8 * (nI i - nI i / 4 * 4)) = nI (24 - 8 * (i % 4)) := by decide
theorem F7_feed_ok (hp : pInv P) (h : zMW I P X b m t ft) (h7 : t.1 ≤ 700) (x0 x1 x2 x3 x4 : Int32) : ∃ J, F_X7_feed x0 x1 x2 x3 x4 I = some ((q_feed t x0 x1 x2 x3 x4).1, J) ∧ zMW J P X b m (q_feed t x0 x1 x2 x3 x4).2 ft ∧ ∀ x, (x < 1860 ∨ 1901 < x) → J x = I x := by
  have h0 := h.c1 hp (v := 0)
  let I1 := zu I 1860 1 0
  have i15 : I1 1860 15 = nI t.1 := h0.2.2.1.1
  have i74 : ∀ k, k < t.1 → I1 1874 k = t.2 k := h0.2.2.1.2
  have c20 : nI t.1 + 20 = nI (t.1 + 20) := nI_add t.1 20
  have hle : nI (t.1 + 20) ≤ 700 ↔ t.1 + 20 ≤ 700 := nI_leI (b := 700) (by omega) (by decide)
  unfold q_feed
  by_cases c : t.1 + 20 ≤ 700
  · rw [if_pos c]
    have s := zloop_up (body := fun s : Int32 × zId => F_X7_feed_L23 x0 x1 x2 x3 x4 s.1 s.2) (fun i s => s.1 = nI i ∧ (∀ x, x ≠ 1874 → x ≠ 1860 → s.2 x = I1 x) ∧ (∀ k, k ≠ 15 → s.2 1860 k = I1 1860 k) ∧ s.2 1860 15 = nI (t.1 + i) ∧ (∀ k, k < t.1 → s.2 1874 k = t.2 k) ∧ ∀ j, j < i → s.2 1874 (t.1 + j) = wby (wsl x0 x1 x2 x3 x4 j) (j % 4)) (fun u => (∀ x, x ≠ 1874 → x ≠ 1860 → u x = I1 x) ∧ (∀ k, k ≠ 15 → u 1860 k = I1 1860 k) ∧ u 1860 15 = nI (t.1 + 20) ∧ (∀ k, k < t.1 → u 1874 k = t.2 k) ∧ ∀ j, j < 20 → u 1874 (t.1 + j) = wby (wsl x0 x1 x2 x3 x4 j) (j % 4)) 20 ?_ ?_ 0 (0, I1) (Nat.zero_le _) ⟨rfl, fun _ _ _ => rfl, fun _ _ => rfl, i15, i74, fun j hj => absurd hj (Nat.not_lt_zero j)⟩
    · obtain ⟨J, g1, r1, r2, r3, r4, r5⟩ := s
      have e : ∀ x k, x ≠ 1874 → (x ≠ 1860 ∨ k ≠ 15) → J x k = I1 x k := fun x k p q => by
        by_cases cx : x = 1860
        · rw [cx]
          exact r2 k (by omega)
        · rw [r1 x p cx]
      have er : ∀ x, x ≠ 1874 → x ≠ 1860 → J x = I1 x := r1
      obtain ⟨⟨q1, q2, q3, q4, ⟨q5, q5b⟩, q6⟩, ⟨h2, h3⟩, -, h6⟩ := id h0
      have hQ : zMQ J P X := by
        obtain ⟨w1, w2, w3, w4, w5⟩ := q1
        exact ⟨w1.cg (er _ (by decide) (by decide)) (er _ (by decide) (by decide)) (er _ (by decide) (by decide)) (er _ (by decide) (by decide)), by rw [er _ (by decide) (by decide)]; exact w2, by rw [er _ (by decide) (by decide)]; exact w3, by rw [er _ (by decide) (by decide)]; exact w4, by rw [er _ (by decide) (by decide)]; exact w5⟩
      refine ⟨J, ?_, ⟨⟨hQ, ?_, by rw [r2 _ (by decide)]; exact q3, fun k hk => by rw [er _ (by decide) (by decide), er _ (by decide) (by decide)]; exact q4 k hk, ⟨by rw [r2 _ (by decide)]; exact q5, fun k hk => by rw [er _ (by decide) (by decide), er _ (by decide) (by decide), er _ (by decide) (by decide)]; exact q5b k hk⟩, fun i hi => by rw [er _ (by decide) (by decide)]; exact q6 i hi⟩, ⟨by rw [r2 _ (by decide)]; exact h2, fun hm => (h3 hm).cg hp.1 hp.2.1 (fun x p q => er x (by omega) (by omega)) (fun k hk => r2 k (by omega)) fun j hj => by rw [er _ (by decide) (by decide)]⟩, ⟨r3, fun k (hk : k < t.1 + 20) => ?_⟩, by rw [r2 _ (by decide)]; exact h6⟩, fun x hx => (er x (by omega) (by omega)).trans (zu_row (by omega))⟩
      · have j1 : zu I 1860 1 0 = I1 := rfl
        simp only [F_X7_feed, ↓reduceIte, zg_true, zb1_e, zb2_e, zb3_e, zsum, zlet_e, nI_1, j1, i15, c20, hle.mpr c, g1, r3]
      · rw [← q2]
        refine zmv2_cg fun x k hk => e x k ?_ ?_
        · rintro rfl
          simp [zmok] at hk
        · simp only [zmok, Bool.or_eq_true, Bool.and_eq_true, decide_eq_true_eq, beq_iff_eq] at hk
          omega
      · show J 1874 k = if k < t.1 then t.2 k else wby (wsl x0 x1 x2 x3 x4 (k - t.1)) ((k - t.1) % 4)
        by_cases c : k < t.1
        · rw [if_pos c]
          exact r4 k c
        · rw [if_neg c]
          obtain ⟨i, rfl⟩ : ∃ i, k = t.1 + i := ⟨k - t.1, by omega⟩
          rw [Nat.add_sub_cancel_left]
          exact r5 i (by omega)
    · rintro i ⟨_, J⟩ hi ⟨rfl, e1, e2, e3, e4, e5⟩
      dsimp only at e1 e2 e3 e4 e5
      let w := wby (wsl x0 x1 x2 x3 x4 i) (i % 4)
      refine Or.inl ⟨(nI (i + 1), zu (zu J 1874 (t.1 + i) w) 1860 15 (nI (t.1 + (i + 1)))), ?_, rfl, fun x p q => ?_, fun k hk => ?_, (by dsimp only; exact zu_same), fun k hk => ?_, fun j hj => ?_⟩
      · dsimp only
        have e15 : zu J 1874 (t.1 + i) w 1860 15 = nI (t.1 + i) := by rw [zu_row (by decide)]; exact e3
        have h20 : ¬ (20 : Int32) ≤ nI i := nI_ge (b := 20) hi (by decide)
        simp only [F_X7_feed_L23, h20, ↓reduceIte]
        rw [zlet_e]
        refine (wsl_k (fun w_5 : Int32 => zg (zin (J 1860 15) 700) (zlet (zu J 1874 (J 1860 15).toNatClampNeg ((w_5 >>> (((24 : Int32) - ((8 : Int32) * (nI i - nI i / 4 * 4))) &&& (31 : Int32))) &&& (255 : Int32))) (fun I_10 => zlet (zu I_10 1860 15 ((I_10 1860 15) + 1)) (fun I_12 => zlet (nI i + 1) (fun v6_14 => (some (.inl (v6_14, I_12)) : Option ((Int32 × zId) ⊕ zId))))))) x0 x1 x2 x3 x4 hi).trans ?_
        rw [wby_k i hi]
        have hw : (wsl x0 x1 x2 x3 x4 i >>> (nI (24 - 8 * (i % 4)) &&& (31 : Int32))) &&& (255 : Int32) = w := rfl
        simp only [e3, zin_n (show t.1 + i < 700 by omega), nI_c (show t.1 + i < 2147483648 by omega), ↓reduceIte, zg_true, zb1_e, zb2_e, zb3_e, zsum, zlet_e, nI_1, hw, e15, Nat.add_assoc]
      · dsimp only
        rw [zu_row q, zu_row p]
        exact e1 x p q
      · dsimp only
        rw [zu_off (by omega), zu_row (by decide)]
        exact e2 k hk
      · dsimp only
        rw [zu_row (by decide), zu_off (by omega)]
        exact e4 k hk
      · dsimp only
        rw [zu_row (by decide)]
        by_cases c : j = i
        · subst c
          rw [zu_same]
        · rw [zu_off (by omega)]
          exact e5 j (by omega)
    · rintro ⟨_, J⟩ ⟨rfl, h⟩
      refine ⟨J, ?_, h⟩
      dsimp only
      simp only [F_X7_feed_L23, show (20 : Int32) ≤ nI 20 from by decide, ↓reduceIte]
  · rw [if_neg c]
    refine ⟨_, ?_, h0, fun x hx => zu_row (by omega)⟩
    have j1 : zu I 1860 1 0 = I1 := rfl
    simp only [F_X7_feed, ↓reduceIte, zg_true, zb1_e, zb2_e, zb3_e, zsum, zlet_e, nI_1, j1, i15, c20, mt hle.mp c]
end L50
