/-! L41: the component: years, undo, forget -/
theorem zpay_0 {a : Type} (c : Nat × Nat) (y : a) : zpay (0, 0) (some (c, y)) = some (c, y) := rfl
theorem zloopC_up0 {s t : Type} {body : s → Option ((Nat × Nat) × (s ⊕ t))} (Inv : Nat → s → Prop) (Post : t → Prop) (e : Nat) (hs : ∀ i x, i < e → Inv i x → (∃ x', body x = some ((0, 0), .inl x') ∧ Inv (i + 1) x') ∨ ∃ y, body x = some ((0, 0), .inr y) ∧ Post y) (he : ∀ x, Inv e x → ∃ y, body x = some ((0, 0), .inr y) ∧ Post y) : ∀ (k i : Nat) (x : s), i + k = e → Inv i x → ∃ y, zloopC body x = some ((0, 0), y) ∧ Post y := by
  intro k
  induction k with
  | zero =>
    intro i x hi h
    obtain ⟨y, h1, h2⟩ := he x (by rw [← hi]; exact h)
    exact ⟨y, zloopC_end h1, h2⟩
  | succ k ih =>
    intro i x hi h
    rcases hs i x (by omega) h with ⟨x', h1, h2⟩ | ⟨y, h1, h2⟩
    · obtain ⟨y, h3, h4⟩ := ih (i + 1) x' (by omega) h2
      refine ⟨y, ?_, h4⟩
      rw [zloopC_step h1, h3]
      rfl
    · exact ⟨y, zloopC_end h1, h2⟩
section L41
variable {K : zKd} {F : zFd} {I : zId} {L : zLd} {n a N : Nat} {P : zP} {X : zXd} {b : zBk}
theorem zCB.nd (h : zCB K F I a N P X b) : 1014 + 10 ≤ a ∨ N ≤ 1014 := by
  have := h.1.2.2.2.2.2.2
  omega
theorem F_years_ok (h : zCB K F I a N P X b) (hp : pInv P) (x : Int32) : ∃ F' I', F_X1_years 1000 x (n, K, F, I, L) = some ((0, 0), ((q_years P b x).1, (n, K, F', I', L))) ∧ zCB K F' I' a N P X (q_years P b x).2 ∧ (∀ x, x ≠ 1025 → F' x = F x) ∧ zaf a I I' := by
  have hnf := hp.1
  have hnb := hp.2.1
  have hq := h.1
  obtain ⟨k0, ⟨f0, f1, f2, f3, -⟩, -, ⟨sN, -⟩, -⟩ := hq
  have k14 := sN.2.1
  have s0 : I 1014 9 = bS b 9 0 := by rw [← h.now]; rfl
  unfold q_years
  by_cases c : zib x 1 30 = 0 ∨ 999 < bS b 9 0 + x
  · rw [if_pos c]
    obtain ⟨F', I', g1, g2, g3, g4⟩ := F_does_ok (n := n) (L := L) h hp (v := 0) (Or.inl rfl)
    rw [if_pos rfl] at g2
    refine ⟨F', I', ?_, g2, g3, g4⟩
    by_cases c1 : zib x 1 30 = 0
    · simp only [F_X1_years, hK, jF, hI, hN, hL, zsFI, zsI, zsF, ↓reduceIte, ↓zka_eq k0, ↓zka_eq k14, d1000, d1014, zg_true, zb1_e, zb2_e, zb3_e, zsum, zlet_e, f0, f3, nI_1, zpay_e, zc1_e, zn2, (zxc_l _).1, (zxc_l _).2, F_within_ok, not_true_eq_false, not_false_eq_true, n10, qcc, qC, c1, g1]
    · have c2 := c.resolve_left c1
      simp only [F_X1_years, hK, jF, hI, hN, hL, zsFI, zsI, zsF, ↓reduceIte, ↓zka_eq k0, ↓zka_eq k14, d1000, d1014, zg_true, zb1_e, zb2_e, zb3_e, zsum, zlet_e, f0, f3, nI_1, zpay_e, zc1_e, zn2, (zxc_l _).1, (zxc_l _).2, F_within_ok, not_true_eq_false, not_false_eq_true, n10, qcc, qC, c1, s0, c2, g1]
  · rw [if_neg c]
    have c1 : ¬ zib x 1 30 = 0 := fun e => c (Or.inl e)
    have c2 : ¬ 999 < bS b 9 0 + x := fun e => c (Or.inr e)
    obtain ⟨q1, q2⟩ := zib_rg c1
    rw [show (1 : Int32).toInt = 1 from rfl] at q1
    rw [show (30 : Int32).toInt = 30 from rfl] at q2
    obtain ⟨m, hm, rfl⟩ : ∃ m, m < 31 ∧ x = nI m := by
      obtain ⟨m, h1, h2⟩ := nI_of (x := x) (fun q => by have := iL.mp q; rw [show (0 : Int32).toInt = 0 from rfl] at this; omega)
      subst h2
      rw [nI_toInt (by omega)] at q2
      exact ⟨m, by omega, rfl⟩
    rw [nI_c (by omega)]
    obtain ⟨F', I', g1, g2, g3, g4⟩ := F_does_ok (n := n) (L := L) h hp (v := 1) (Or.inr rfl)
    rw [if_neg (by decide)] at g2
    have f0' : F' 1000 0 = some a := by rw [g3 1000 (by decide)]; exact f0
    have f3' : F' 1000 3 = some 1014 := by rw [g3 1000 (by decide)]; exact f3
    have s := zloopC_up0 (body := fun s : Int32 × zSt => F_X1_years_L41 1000 (nI m) s.1 s.2) (fun i s => s.1 = nI i ∧ ∃ J, s.2 = (n, K, F', J, L) ∧ zCB K F' J a N P X (bSt (bKeep b) (sp_it P (bS b) i)) ∧ zaf a I J) (fun t => ∃ J, t = (n, K, F', J, L) ∧ zCB K F' J a N P X (bSt (bKeep b) (sp_it P (bS b) m)) ∧ zaf a I J) m ?_ ?_ m 0 (0, (n, K, F', I', L)) (by omega) ⟨rfl, I', rfl, g2, g4⟩
    · obtain ⟨_, z1, J, rfl, z2, z3⟩ := s
      refine ⟨F', J, ?_, z2, g3, z3⟩
      have s9 : J 1014 9 = sp_it P (bS b) m 9 0 := by have := z2.now; rw [show bS (bSt (bKeep b) (sp_it P (bS b) m)) = sp_it P (bS b) m from rfl] at this; rw [← this]; rfl
      simp only [F_X1_years, hK, jF, hI, hN, hL, zsFI, zsI, zsF, ↓reduceIte, ↓zka_eq k0, ↓zka_eq k14, d1000, d1014, zg_true, zb1_e, zb2_e, zb3_e, zsum, zlet_e, f0, f3, nI_1, zpay_e, zc1_e, zn2, (zxc_l _).1, (zxc_l _).2, F_within_ok, not_true_eq_false, not_false_eq_true, n10, qcc, qC, c1, s0, c2, g1, z1, f3', s9]
    · rintro i ⟨_, _⟩ hi ⟨rfl, J, rfl, z2, z3⟩
      have hzi := z2.si
      have hzn := z2.now
      rw [show bS (bSt (bKeep b) (sp_it P (bS b) i)) = sp_it P (bS b) i from rfl] at hzn hzi
      obtain ⟨J1, u1, u2, -, u3⟩ := F_goes_ok z2.1.2.2.2.1.1 z2.1.2.2.2.2.1 hp z2.nd (by rw [hzn]; exact hzi)
      rw [hzn] at u2
      obtain ⟨w1, w2⟩ := z2.st u3 u2 (sInv_ye hp hzi)
      refine Or.inl ⟨(nI (i + 1), (n, K, F', J1, L)), ?_, rfl, J1, rfl, w1, z3.tr w2⟩
      dsimp only
      simp only [F_X1_years_L41, hK, jF, hI, hN, hL, zsFI, zsI, zsF, ↓reduceIte, ↓zka_eq k0, ↓zka_eq k14, d1000, d1014, zg_true, zb1_e, zb2_e, zb3_e, zsum, zlet_e, f0, f3, nI_1, zpay_e, zc1_e, zn2, (zxc_l _).1, (zxc_l _).2, F_within_ok, not_true_eq_false, not_false_eq_true, n10, qcc, qC, nI_ge hi (show m < 2 ^ 31 by omega), f0', f3', u1]
    · rintro ⟨_, _⟩ ⟨rfl, J, rfl, z2, z3⟩
      refine ⟨_, ?_, J, rfl, z2, z3⟩
      dsimp only
      simp only [F_X1_years_L41, ↓reduceIte, nI_le (Nat.le_refl (m)) (show m < 2 ^ 31 by omega)]
theorem F_forget_ok (h : zCB K F I a N P X b) : ∃ I', F_X1_forget K F 1000 I = some I' ∧ zCB K F I' a N P X (q_forget b) ∧ zaf a I I' := by
  obtain ⟨h1, h2, h3, ⟨o, h4, h5⟩, h6, h9⟩ := h
  have hd := h1.2.2.2.2.2.2
  have k0 := h1.1
  have f1 := h1.2.1.2.1
  have k13 := h3.2.1
  have haf : zaf a I (zu I 1013 7 0) := fun x p q => zu_row (by omega)
  refine ⟨zu I 1013 7 0, ?_, ⟨h1.af haf, h2, h3, ⟨o, h4, ?_⟩, h6, ⟨Nat.zero_le _, fun k hk => absurd hk (Nat.not_lt_zero k)⟩⟩, haf⟩
  · simp only [F_X1_forget, ↓reduceIte, zg_true, zb1_e, zb2_e, zb3_e, zsum, zlet_e, nI_1, ↓zka_eq k0, d1000, f1, ↓zka_eq k13, show decide (600 ≤ 1013) = true from rfl]
  · obtain ⟨v1, v2, ⟨v3, v4⟩, v5, v6, v7⟩ := h5
    refine ⟨by rw [zu_row (by decide)]; exact v1, by rw [zcvo (by omega)]; exact v2, ⟨by rw [zu_off (by omega)]; exact v3, v4⟩, fun k hk => ?_, ⟨zu_same, fun k hk => absurd hk (Nat.not_lt_zero k)⟩, fun j hj => by rw [zu_row (by decide)]; exact v7 j hj⟩
    rw [zcvo (by omega)]
    exact v5 k hk
theorem F_undo_ok (h : zCB K F I a N P X b) (hp : pInv P) : ∃ I', F_X1_undo K F 1000 I = some ((q_undo b).1, I') ∧ zCB K F I' a N P X (q_undo b).2 ∧ zaf a I I' := by
  have h0 := h
  obtain ⟨h1, h2, h3, ⟨o, h4, h5⟩, h6, h9⟩ := h
  have hd := h1.2.2.2.2.2.2
  obtain ⟨k0, ⟨f0, f1, f2, f3, -⟩, -, ⟨sN, -⟩, -⟩ := h1
  have k14 := sN.2.1
  have k13 := h3.2.1
  obtain ⟨v1, v2, ⟨v3, v4⟩, v5, v6, v7⟩ := h5
  unfold q_undo
  by_cases c : bA b = 0
  · rw [if_pos c]
    refine ⟨I, ?_, h0, zaf.rf⟩
    rw [c] at v3
    have e : nI 0 = 0 := nI_0
    simp only [F_X1_undo, ↓reduceIte, zg_true, zb1_e, zb2_e, zb3_e, zsum, zlet_e, nI_1, ↓zka_eq k0, d1000, f1, ↓zka_eq k13, show decide (600 ≤ 1013) = true from rfl, v3, e, not_true_eq_false]
  · rw [if_neg c]
    obtain ⟨m, hm⟩ : ∃ m, bA b = m + 1 := ⟨bA b - 1, by omega⟩
    rw [hm, Nat.add_sub_cancel]
    have hm40 : m < 40 := by omega
    rw [hm] at v3
    let I1 := zu I 1013 6 (nI m)
    have hg := zBG h3 h4 (J := I1) (by show zu I 1013 6 (nI m) (1013 + 11) 2 = _; rw [zu_row (by decide)]; exact v1) hm40
    have ho := h4.1 m hm40
    have hst := h3.2.2.2.2.2.2 _ ho.1
    have hlk := F_like_ok (I := I1) sN hst (by omega)
    have kO := hst.2.1
    have f13 := h3.2.2.1.2.1
    have kl := h3.2.2.2.2.1.1
    have hcv : zcv (pnf P) (pnb P) (zlk I1 1014 (1013 + 17 + 10 * o m)) 1014 = bP b m := by
      rw [zlk_cv hp.1 hp.2.1 (by omega)]
      show zcv _ _ (zu I 1013 6 (nI m)) _ = _
      rw [zcvo (by omega)]
      exact v5 m (by omega)
    have hrow : ∀ x, x ≠ 1013 → (x < 1014 ∨ 1023 < x) → zlk I1 1014 (1013 + 17 + 10 * o m) x = I x := fun x p q => by
      rw [zlk_off (by omega)]
      exact zu_row p
    have haf : zaf a I (zlk I1 1014 (1013 + 17 + 10 * o m)) := fun x p q => hrow x (by omega) (by omega)
    refine ⟨zlk I1 1014 (1013 + 17 + 10 * o m), ?_, ⟨h0.1.af haf, h2, h3, ⟨o, h4, ?_⟩, ⟨by show m ≤ 40; omega, h6.2.2 m (by omega), fun k (hk : k < m) => h6.2.2 k (by omega)⟩, h9⟩, haf⟩
    · have e1 : zlk I1 1014 (1013 + 17 + 10 * o m) 1013 6 = nI m := by
        rw [zlk_off (by omega)]
        exact zu_same
      have e2 : I1 1013 6 = nI m := zu_same
      have e3 : zu I 1013 6 (nI m) = I1 := rfl
      have n1 : ¬ nI (m + 1) = 0 := nI_ne0 (by omega) (by omega)
      simp only [F_X1_undo, ↓reduceIte, zg_true, zb1_e, zb2_e, zb3_e, zsum, zlet_e, nI_1, ↓zka_eq k0, ↓zka_eq k14, d1000, f1, f3, ↓zka_eq k13, show decide (600 ≤ 1013) = true from rfl, v3, n1, not_false_eq_true, nI_pred, e3, f13, e2, ↓zka_eq kl, hg, ↓zka_eq kO, hlk, e1]
    · refine ⟨by rw [hrow _ (by decide) (by omega)]; exact v1, hcv, ⟨?_, by show m ≤ 40; omega⟩, fun k hk => ?_, ⟨?_, fun k hk => ?_⟩, fun j hj => by rw [hrow _ (by decide) (by omega)]; exact v7 j hj⟩
      · rw [zlk_off (by omega)]
        exact zu_same
      · have hk' : k < m := hk
        have := h4.1 k (by omega)
        rw [zcv_row (I := I) fun x p q => hrow x (by omega) (by omega)]
        exact v5 k (by omega)
      · rw [zlk_off (by omega)]
        show zu I 1013 6 (nI m) 1013 7 = _
        rw [zu_off (by omega)]
        exact v6.1
      · rw [hrow _ (by decide) (by omega), hrow _ (by decide) (by omega), hrow _ (by decide) (by omega)]
        exact v6.2 k hk
end L41
