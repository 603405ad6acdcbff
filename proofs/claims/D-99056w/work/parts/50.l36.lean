/-! L36: forest, band, count -/
def sp_rv (P : zP) (X : zXd) (f : Nat) : Int32 := zcn (fun g => !(decide (xrv X f g ≤ 0))) (pnf P)
def sp_bi (P : zP) (S : zS) (f : Nat) : Int32 := nI (zbn (fun b => decide (S 4 b = nI f)) (pnb P))
def q_forest (P : zP) (X : zXd) (S : zS) (x w : Int32) : Int32 ⊕ Nat := q_fa (pnf P) x fun f => q_in w 6 1 fun w => .inl (match w with
  | 0 => S 0 f
  | 1 => S 1 f
  | 2 => prm P f
  | 3 => pgr P f
  | 4 => S 2 f
  | 5 => sp_bi P S f
  | _ => sp_rv P X f)
def q_band (P : zP) (S : zS) (x w : Int32) : Int32 ⊕ Nat := q_fa (pnb P) x fun b => q_in w 6 1 fun w => .inl (match w with
  | 0 => S 3 b
  | 1 => S 4 b
  | 2 => S 5 b
  | 3 => S 6 b
  | 4 => S 7 b
  | 5 => S 8 b
  | _ => sp_tk P S b)
/-- what else count tells: acts, spied, taped, refused -/
abbrev zCt : Type := Int32 × Int32 × Int32 × (Nat → Int32)
def q_count (P : zP) (X : zXd) (S : zS) (T : zCt) (w : Int32) : Int32 ⊕ Nat := q_in w 16 1 fun w => .inl (match w with
  | 0 => nI (pnf P)
  | 1 => xnr X
  | 2 => nI (pnb P)
  | 3 => nI (xnt X)
  | 4 => ptax P
  | 5 => pfox P
  | 6 => plim P
  | 7 => S 9 0
  | 8 => zsm (S 0) (pnf P)
  | 9 => S 9 1
  | 10 => S 9 2
  | 11 => T.1
  | 12 => T.2.1
  | 13 => T.2.2.1
  | 14 => T.2.2.2 0
  | 15 => T.2.2.2 1
  | _ => T.2.2.2 2)
theorem z_ne {w : Int32} {n k : Nat} (h : w < 0 ∨ nI n < w) (hk : k ≤ n) (hn : n < 1000) : ¬ w = nI k := by
  intro e
  subst e
  rcases h with h | h
  · exact nI_pos (by omega) h
  · exact nI_nlt hk (by omega) h
theorem zsix {k : Nat} (h : k ≤ 6) : k = 0 ∨ k = 1 ∨ k = 2 ∨ k = 3 ∨ k = 4 ∨ k = 5 ∨ k = 6 := by omega
theorem zsixt {k : Nat} (h : k ≤ 16) : k = 0 ∨ k = 1 ∨ k = 2 ∨ k = 3 ∨ k = 4 ∨ k = 5 ∨ k = 6 ∨ k = 7 ∨ k = 8 ∨ k = 9 ∨ k = 10 ∨ k = 11 ∨ k = 12 ∨ k = 13 ∨ k = 14 ∨ k = 15 ∨ k = 16 := by omega
section L36
variable {K : zKd} {F : zFd} {I : zId} {a N : Nat} {P : zP} {X : zXd} {T : zCt}
theorem F_bandsIn_ok (h : zCQ K F I a N P X) (hp : pInv P) (hi : sInv P (zcv (pnf P) (pnb P) I 1014)) (f : Nat) : F_X1_bandsIn K F 1000 (nI f) I = some (sp_bi P (zcv (pnf P) (pnb P) I 1014) f) := by
  obtain ⟨h1, h2⟩ := F_tl_ok h
  have e0 : zcv (pnf P) (pnb P) (zlk I 1847 1014) 1847 = zcv (pnf P) (pnb P) I 1014 := zlk_cv hp.1 hp.2.1 (by decide)
  have h0 := h
  have hnf := hp.1
  have hnb := hp.2.1
  obtain ⟨k0, ⟨f0, f1, f2, f3, f4, f6, f9, f10⟩, ⟨kt, kw, ks⟩, ⟨hN, hT⟩, hL, hQ, hd⟩ := h
  obtain ⟨n6, nk, ⟨-, -, -, -, nf4, -⟩, -, -, -, -, nk5, -⟩ := hN
  have s := zloop_up (body := fun s : Int32 × Int32 => F_X1_bandsIn_L4 K F 1000 (nI f) I s.1 s.2) (fun i s => s = (nI (zbn (fun b => decide ((zcv (pnf P) (pnb P) I 1014) 4 b = nI f)) i), nI i)) (fun t => t = sp_bi P (zcv (pnf P) (pnb P) I 1014) f) (pnb P) ?_ ?_ 0 (0, 0) (Nat.zero_le _) rfl
  · obtain ⟨t, t1, rfl⟩ := s
    simp only [F_X1_bandsIn, t1, zb1_e]
  · rintro i _ hib rfl
    have e4 : I 1019 i = (zcv (pnf P) (pnb P) I 1014) 4 i := (zcv4 hib).symm
    refine Or.inl ⟨(nI (zbn (fun b => decide ((zcv (pnf P) (pnb P) I 1014) 4 b = nI f)) (i + 1)), nI (i + 1)), ?_, rfl⟩
    dsimp only
    by_cases c : (zcv (pnf P) (pnb P) I 1014) 4 i = nI f
    · simp only [F_X1_bandsIn_L4, ↓zka_eq k0, F_bands_ok h0, ↓reduceIte, zg_true, zb1_e, zb2_e, zb3_e, zsum, zlet_e, nI_1, nI_ge hib (show pnb P < 2 ^ 31 by omega), d1000, d1014, f3, ↓zka_eq nk, nf4, ↓zka_eq nk5, zin_n (show i < 6 by omega), nI_c (show i < 2147483648 by omega), e4, c, not_true_eq_false, zbits_or i (by omega) _ (zbn_lt _ i), zbn, decide_true]
    · simp only [F_X1_bandsIn_L4, ↓zka_eq k0, F_bands_ok h0, ↓reduceIte, zg_true, zb1_e, zb2_e, zb3_e, zsum, zlet_e, nI_1, nI_ge hib (show pnb P < 2 ^ 31 by omega), d1000, d1014, f3, ↓zka_eq nk, nf4, ↓zka_eq nk5, zin_n (show i < 6 by omega), nI_c (show i < 2147483648 by omega), e4, c, not_false_eq_true, zbn, decide_false, Bool.false_eq_true]
  · rintro _ rfl
    dsimp only
    simp only [F_X1_bandsIn_L4, ↓zka_eq k0, F_bands_ok h0, zb1_e, ↓reduceIte, nI_le (Nat.le_refl (pnb P)) (show pnb P < 2 ^ 31 by omega)]
    exact ⟨_, rfl, rfl⟩
theorem F_riversOf_ok (h : zCQ K F I a N P X) (hp : pInv P) {f : Nat} (hf : f < pnf P) : F_X1_riversOf K F 1000 (nI f) I = some (sp_rv P X f) := by
  have hnf := hp.1
  have h0 := h
  obtain ⟨k0, ⟨f0, -⟩, -, -, hL, ⟨-, -, -, ⟨q7, qk7, -, -⟩, q9⟩, -⟩ := h
  have l1 := hL.1
  have l3 := hL.2.2.1
  have s := zloop_up (body := fun s : Int32 × Int32 => F_X1_riversOf_L4 K F 1000 (nI f) I s.1 s.2) (fun i s => s = (zcn (fun g => !(decide (xrv X f g ≤ 0))) i, nI i)) (fun t => t = sp_rv P X f) (pnf P) ?_ ?_ 0 (0, 0) (Nat.zero_le _) rfl
  · obtain ⟨t, t1, rfl⟩ := s
    simp only [F_X1_riversOf, t1, zb1_e]
  · rintro i _ hib rfl
    have hr := F_hr_ok (J := I) l3 l1 q7 qk7 (show f < 8 by omega) (show i < 8 by omega)
    rw [(q9 f i hf hib).1] at hr
    refine Or.inl ⟨(zcn (fun g => !(decide (xrv X f g ≤ 0))) (i + 1), nI (i + 1)), ?_, rfl⟩
    dsimp only
    by_cases c : xrv X f i ≤ 0
    · simp only [F_X1_riversOf_L4, ↓zka_eq k0, F_forests_ok h0, ↓reduceIte, zg_true, zb1_e, zb2_e, zb3_e, zsum, zlet_e, nI_1, nI_ge hib (show pnf P < 2 ^ 31 by omega), d1000, f0, ↓zka_eq l3, hr, c, zcn, decide_true, Bool.not_true, Bool.false_eq_true]
    · simp only [F_X1_riversOf_L4, ↓zka_eq k0, F_forests_ok h0, ↓reduceIte, zg_true, zb1_e, zb2_e, zb3_e, zsum, zlet_e, nI_1, nI_ge hib (show pnf P < 2 ^ 31 by omega), d1000, f0, ↓zka_eq l3, hr, c, show ¬ (1 : Int32) = 0 by decide, zcn, decide_false, Bool.not_false]
  · rintro _ rfl
    dsimp only
    simp only [F_X1_riversOf_L4, ↓zka_eq k0, F_forests_ok h0, zb1_e, ↓reduceIte, nI_le (Nat.le_refl (pnf P)) (show pnf P < 2 ^ 31 by omega)]
    exact ⟨_, rfl, rfl⟩
theorem F_forest_ok (h : zCQ K F I a N P X) (hp : pInv P) (hi : sInv P (zcv (pnf P) (pnb P) I 1014)) (x w : Int32) : F_X1_forest K F 1000 x w I = some (qC (q_forest P X (zcv (pnf P) (pnb P) I 1014) x w), I) := by
  obtain ⟨h1, h2⟩ := F_tl_ok h
  have e0 : zcv (pnf P) (pnb P) (zlk I 1847 1014) 1847 = zcv (pnf P) (pnb P) I 1014 := zlk_cv hp.1 hp.2.1 (by decide)
  have h0 := h
  have hnf := hp.1
  have hnb := hp.2.1
  obtain ⟨k0, ⟨f0, f1, f2, f3, f4, f6, f9, f10⟩, ⟨kt, kw, ks⟩, ⟨hN, hT⟩, hL, hQ, hd⟩ := h
  unfold q_forest
  rcases zir_cases x (n := pnf P) (by omega) with ⟨f, hf, rfl⟩ | hx
  · rw [q_fa_ok hf (by omega)]
    obtain ⟨o, ho, ⟨o1, o2, o3⟩, ho4, ho5, ho6⟩ := F_forestAt_ok h0 hp hf
    have l1 := hL.1
    rcases zib_cases w 6 (by decide) with ⟨w, hw, rfl⟩ | ⟨hw, hw2⟩
    · rw [q_in_ok hw (by decide)]
      have ew : F_X1_within K F (nI w) 0 6 I = some 1 := by rw [F_within_ok]; exact congrArg some (zib_nI hw (by decide))
      have e0 : (zcv (pnf P) (pnb P) I 1014) 0 f = I 1015 f := zcv0 hf
      have e1 : (zcv (pnf P) (pnb P) I 1014) 1 f = I 1016 f := zcv1 hf
      have e2 : (zcv (pnf P) (pnb P) I 1014) 2 f = I 1017 f := zcv2 hf
      obtain ⟨n6, nk, ⟨nf0, nf1, nf2, -⟩, nk1, nk2, nk3, -⟩ := hN
      have hbi := F_bandsIn_ok h0 hp hi f
      have hri := F_riversOf_ok h0 hp hf
      have d6 := decide_eq_true (show 600 ≤ o by omega)
      rcases zsix hw with rfl | rfl | rfl | rfl | rfl | rfl | rfl
      all_goals
        simp (decide := true) only [decide_true, F_X1_forest, ↓zka_eq k0, ho, ↓reduceIte, zg_true, zb1_e, zb2_e, zb3_e, zsum, zlet_e, nI_1, zb2_e, ew, F_there_1, d1000, d1014, f3, ↓zka_eq nk, nf0, nf1, nf2, ↓zka_eq nk1, ↓zka_eq nk2, ↓zka_eq nk3, zin_n (show f < 8 by omega), nI_c (show f < 2147483648 by omega), ↓zka_eq ho4, ho5, ho6, d6, hbi, hri, qC, e0, e1, e2]
        try rfl
    · rw [q_in_no hw2]
      have ew : F_X1_within K F w 0 6 I = some 0 := by rw [F_within_ok]; exact congrArg some hw
      simp only [F_X1_forest, ↓zka_eq k0, ho, ↓reduceIte, zg_true, zb1_e, zb2_e, zb3_e, zsum, zlet_e, nI_1, zb2_e, ew, F_there_0, qC]
  · rw [q_fa_no hx]
    simp only [F_X1_forest, ↓zka_eq k0, F_forestAt_no h0 hx, ↓reduceIte, zg_true, zb1_e, zb2_e, zb3_e, zsum, zlet_e, nI_1, zb2_e, qC]
theorem F_band_ok (h : zCQ K F I a N P X) (hp : pInv P) (hi : sInv P (zcv (pnf P) (pnb P) I 1014)) (x w : Int32) : ∃ J, F_X1_band K F 1000 x w I = some (qC (q_band P (zcv (pnf P) (pnb P) I 1014) x w), J) ∧ zcf a I J := by
  obtain ⟨h1, h2⟩ := F_tl_ok h
  have e0 : zcv (pnf P) (pnb P) (zlk I 1847 1014) 1847 = zcv (pnf P) (pnb P) I 1014 := zlk_cv hp.1 hp.2.1 (by decide)
  have h0 := h
  have hnf := hp.1
  have hnb := hp.2.1
  obtain ⟨k0, ⟨f0, f1, f2, f3, f4, f6, f9, f10⟩, ⟨kt, kw, ks⟩, ⟨hN, hT⟩, hL, hQ, hd⟩ := h
  unfold q_band
  rcases zir_cases x (n := pnb P) (by omega) with ⟨b, hb, rfl⟩ | hx
  · rw [q_fa_ok hb (by omega)]
    have hB := F_bandAt_ok h0 hp hb
    rcases zib_cases w 6 (by decide) with ⟨w, hw, rfl⟩ | ⟨hw, hw2⟩
    · rw [q_in_ok hw (by decide)]
      have ew : F_X1_within K F (nI w) 0 6 I = some 1 := by rw [F_within_ok]; exact congrArg some (zib_nI hw (by decide))
      have e3 : (zcv (pnf P) (pnb P) I 1014) 3 b = I 1018 b := zcv3 hb
      have e4 : (zcv (pnf P) (pnb P) I 1014) 4 b = I 1019 b := zcv4 hb
      have e5 : (zcv (pnf P) (pnb P) I 1014) 5 b = I 1020 b := zcv5 hb
      have e6 : (zcv (pnf P) (pnb P) I 1014) 6 b = I 1021 b := zcv6 hb
      have e7 : (zcv (pnf P) (pnb P) I 1014) 7 b = I 1022 b := zcv7 hb
      have e8 : (zcv (pnf P) (pnb P) I 1014) 8 b = I 1023 b := zcv8 hb
      obtain ⟨J, g1, g2⟩ := F_takes_ok hN hL hp (show 1014 + 10 ≤ a ∨ N ≤ 1014 by omega) hi hb
      obtain ⟨n6, nk, ⟨-, -, -, nf3, nf4, nf5, nf6, nf7, nf8⟩, -, -, -, nk4, nk5, nk6, nk7, nk8, nk9⟩ := hN
      have g3 : zcf a I J := fun x k hx => by rw [g2 x (by intro e; subst e; simp [zcsc] at hx)]
      rcases zsix hw with rfl | rfl | rfl | rfl | rfl | rfl | rfl
      · exact ⟨I, by (simp (decide := true) only [decide_true, F_X1_band, ↓zka_eq k0, hB, ↓reduceIte, zg_true, zb1_e, zb2_e, zb3_e, zsum, zlet_e, nI_1, zb2_e, ew, F_there_1, d1000, d1014, f3, ↓zka_eq nk, nf3, ↓zka_eq nk4, zin_n (show b < 6 by omega), nI_c (show b < 2147483648 by omega), qC, e3]); try rfl, zcf.rf⟩
      · exact ⟨I, by (simp (decide := true) only [decide_true, F_X1_band, ↓zka_eq k0, hB, ↓reduceIte, zg_true, zb1_e, zb2_e, zb3_e, zsum, zlet_e, nI_1, zb2_e, ew, F_there_1, d1000, d1014, f3, ↓zka_eq nk, nf4, ↓zka_eq nk5, zin_n (show b < 6 by omega), nI_c (show b < 2147483648 by omega), qC, e4]); try rfl, zcf.rf⟩
      · exact ⟨I, by (simp (decide := true) only [decide_true, F_X1_band, ↓zka_eq k0, hB, ↓reduceIte, zg_true, zb1_e, zb2_e, zb3_e, zsum, zlet_e, nI_1, zb2_e, ew, F_there_1, d1000, d1014, f3, ↓zka_eq nk, nf5, ↓zka_eq nk6, zin_n (show b < 6 by omega), nI_c (show b < 2147483648 by omega), qC, e5]); try rfl, zcf.rf⟩
      · exact ⟨I, by (simp (decide := true) only [decide_true, F_X1_band, ↓zka_eq k0, hB, ↓reduceIte, zg_true, zb1_e, zb2_e, zb3_e, zsum, zlet_e, nI_1, zb2_e, ew, F_there_1, d1000, d1014, f3, ↓zka_eq nk, nf6, ↓zka_eq nk7, zin_n (show b < 6 by omega), nI_c (show b < 2147483648 by omega), qC, e6]); try rfl, zcf.rf⟩
      · exact ⟨I, by (simp (decide := true) only [decide_true, F_X1_band, ↓zka_eq k0, hB, ↓reduceIte, zg_true, zb1_e, zb2_e, zb3_e, zsum, zlet_e, nI_1, zb2_e, ew, F_there_1, d1000, d1014, f3, ↓zka_eq nk, nf7, ↓zka_eq nk8, zin_n (show b < 6 by omega), nI_c (show b < 2147483648 by omega), qC, e7]); try rfl, zcf.rf⟩
      · exact ⟨I, by (simp (decide := true) only [decide_true, F_X1_band, ↓zka_eq k0, hB, ↓reduceIte, zg_true, zb1_e, zb2_e, zb3_e, zsum, zlet_e, nI_1, zb2_e, ew, F_there_1, d1000, d1014, f3, ↓zka_eq nk, nf8, ↓zka_eq nk9, zin_n (show b < 6 by omega), nI_c (show b < 2147483648 by omega), qC, e8]); try rfl, zcf.rf⟩
      · exact ⟨J, by (simp (decide := true) only [decide_true, F_X1_band, ↓zka_eq k0, hB, ↓reduceIte, zg_true, zb1_e, zb2_e, zb3_e, zsum, zlet_e, nI_1, zb2_e, ew, F_there_1, d1000, f0, f3, ↓zka_eq nk, g1, qC]); try rfl, g3⟩
    · rw [q_in_no hw2]
      have ew : F_X1_within K F w 0 6 I = some 0 := by rw [F_within_ok]; exact congrArg some hw
      exact ⟨I, by simp only [F_X1_band, ↓zka_eq k0, hB, ↓reduceIte, zg_true, zb1_e, zb2_e, zb3_e, zsum, zlet_e, nI_1, zb2_e, ew, F_there_0, qC], zcf.rf⟩
  · rw [q_fa_no hx]
    exact ⟨I, by simp only [F_X1_band, ↓zka_eq k0, F_bandAt_no h0 hx, ↓reduceIte, zg_true, zb1_e, zb2_e, zb3_e, zsum, zlet_e, nI_1, zb2_e, qC], zcf.rf⟩
theorem F_count_ok (h : zCQ K F I a N P X) (hp : pInv P) (hi : sInv P (zcv (pnf P) (pnb P) I 1014)) (hB : (K 1013 = some (4, 0) ∧ F 1013 5 = some 1029 ∧ K 1029 = some (64, 3)) ∧ I 1013 6 = T.1 ∧ I 1013 7 = T.2.1 ∧ I 1000 7 = T.2.2.1 ∧ ∀ i, i < 3 → I 1029 i = T.2.2.2 i) (w : Int32) : F_X1_count K F 1000 w I = some (qC (q_count P X (zcv (pnf P) (pnb P) I 1014) T w), I) := by
  obtain ⟨h1, h2⟩ := F_tl_ok h
  have e0 : zcv (pnf P) (pnb P) (zlk I 1847 1014) 1847 = zcv (pnf P) (pnb P) I 1014 := zlk_cv hp.1 hp.2.1 (by decide)
  have h0 := h
  have hnf := hp.1
  have hnb := hp.2.1
  obtain ⟨k0, ⟨f0, f1, f2, f3, f4, f6, f9, f10⟩, ⟨kt, kw, ks⟩, ⟨hN, hT⟩, hL, hQ, hd⟩ := h
  obtain ⟨⟨b1, b2, b3⟩, b4, b5, b6, b7⟩ := hB
  unfold q_count
  rcases zib_cases w 16 (by decide) with ⟨w, hw, rfl⟩ | ⟨hw, hw2⟩
  · rw [q_in_ok hw (by decide)]
    have ew : F_X1_within K F (nI w) 0 16 I = some 1 := by rw [F_within_ok]; exact congrArg some (zib_nI hw (by decide))
    have al := F_all_ok (nb := pnb P) (J := I) hN hp.1
    have nk := hN.2.1
    obtain ⟨l1, l2, l3, l4, l5, l6, -⟩ := hL
    obtain ⟨q1, ⟨E, q2, q3, -⟩, -⟩ := hQ
    have d1013 : decide (600 ≤ 1013) = true := rfl
    have e90 : (zcv (pnf P) (pnb P) I 1014) 9 0 = I 1014 9 := rfl
    have e91 : (zcv (pnf P) (pnb P) I 1014) 9 1 = I 1014 10 := rfl
    have e92 : (zcv (pnf P) (pnb P) I 1014) 9 2 = I 1014 11 := rfl
    have b70 := b7 0 (by decide)
    have b71 := b7 1 (by decide)
    have b72 := b7 2 (by decide)
    have x0 : nI 14 - 14 = nI 0 := by decide
    have x1 : nI 15 - 14 = nI 1 := by decide
    have x2 : nI 16 - 14 = nI 2 := by decide
    rcases zsixt hw with rfl | rfl | rfl | rfl | rfl | rfl | rfl | rfl | rfl | rfl | rfl | rfl | rfl | rfl | rfl | rfl | rfl
    all_goals
      simp (decide := true) only [decide_true, F_X1_count, ↓reduceIte, zg_true, zb1_e, zb2_e, zb3_e, zsum, zlet_e, nI_1, zb2_e, ew, F_there_1, ↓zka_eq k0, F_forests_ok h0, F_bands_ok h0, d1000, d1013, d1014, decide_eq_true l1, f0, f1, f3, ↓zka_eq l3, ↓zka_eq nk, ↓zka_eq b1, b2, ↓zka_eq b3, q1, q2, ↓zka_eq q3.2.1, zAL_size q3, l4, l5, l6, al, b4, b5, b6, x0, x1, x2, zin_n (show 0 < 3 by decide), zin_n (show 1 < 3 by decide), zin_n (show 2 < 3 by decide), nI_c (show 0 < 2147483648 by decide), nI_c (show 1 < 2147483648 by decide), nI_c (show 2 < 2147483648 by decide), b70, b71, b72, e90, e91, e92, qC]
      try rfl
  · rw [q_in_no hw2]
    have ew : F_X1_within K F w 0 16 I = some 0 := by rw [F_within_ok]; exact congrArg some hw
    simp only [F_X1_count, ↓reduceIte, zg_true, zb1_e, zb2_e, zb3_e, zsum, zlet_e, nI_1, zb2_e, ew, F_there_0, qC]
/-! the model -/
theorem F7_riversOf_ok (hQ : zMQ I P X) (hp : pInv P) {f : Nat} (hf : f < pnf P) : F_X7_riversOf (nI f) I = some (sp_rv P X f) := by
  have hnf := hp.1
  have s := zloop_up (body := fun s : Int32 × Int32 => F_X7_riversOf_L4 (nI f) I s.1 s.2) (fun i s => s = (zcn (fun g => !(decide (xrv X f g ≤ 0))) i, nI i)) (fun t => t = sp_rv P X f) (pnf P) ?_ ?_ 0 (0, 0) (Nat.zero_le _) rfl
  · obtain ⟨t, t1, rfl⟩ := s
    simp only [F_X7_riversOf, t1, zb1_e]
  · rintro i _ hib rfl
    have e8 : (8 : Int32) * nI f + nI i = nI (8 * f + i) := by rw [show (8 : Int32) * nI f = nI (8 * f) from nI_mul (a := 8) (by omega) (by decide) (by omega), nI_add]
    refine Or.inl ⟨(zcn (fun g => !(decide (xrv X f g ≤ 0))) (i + 1), nI (i + 1)), ?_, rfl⟩
    dsimp only
    by_cases c : xrv X f i ≤ 0
    · simp only [F_X7_riversOf_L4, hQ.1.1, ↓reduceIte, zg_true, zb1_e, zb2_e, zb3_e, zsum, zlet_e, nI_1, nI_ge hib (show pnf P < 2 ^ 31 by omega), e8, zin_n (show 8 * f + i < 128 by omega), nI_c (show 8 * f + i < 2147483648 by omega), hQ.2.2.2.2 f i hf hib, c, zcn, decide_true, Bool.not_true, Bool.false_eq_true, Int32.add_zero]
    · simp only [F_X7_riversOf_L4, hQ.1.1, ↓reduceIte, zg_true, zb1_e, zb2_e, zb3_e, zsum, zlet_e, nI_1, nI_ge hib (show pnf P < 2 ^ 31 by omega), e8, zin_n (show 8 * f + i < 128 by omega), nI_c (show 8 * f + i < 2147483648 by omega), hQ.2.2.2.2 f i hf hib, c, zcn, decide_false, Bool.not_false]
  · rintro _ rfl
    dsimp only
    simp only [F_X7_riversOf_L4, hQ.1.1, ↓reduceIte, nI_le (Nat.le_refl (pnf P)) (show pnf P < 2 ^ 31 by omega)]
    exact ⟨_, rfl, rfl⟩
theorem F7_forest_ok (hQ : zMQ I P X) (hp : pInv P) (hi : sInv P (zmv2 (pnf P) (pnb P) I)) (x w : Int32) : ∃ J, F_X7_forest x w I = some (qV (q_forest P X (zmv2 (pnf P) (pnb P) I) x w), J) ∧ J 1860 1 = qE (q_forest P X (zmv2 (pnf P) (pnb P) I) x w) ∧ zmv2 (pnf P) (pnb P) J = zmv2 (pnf P) (pnb P) I ∧ zmf I J := by
  have hc := zmf_c1 (I := I) (v := 0)
  have hQ1 := hQ.mf hc
  have em : zmv2 (pnf P) (pnb P) (zu I 1860 1 0) = zmv2 (pnf P) (pnb P) I := zmv2_c1
  have hnf := hp.1
  have hnb := hp.2.1
  unfold q_forest
  rcases zir_cases x (n := pnf P) (by omega) with ⟨f, hf, rfl⟩ | hx
  · rw [q_fa_ok hf (by omega)]
    have hF := F7_isF_ok (by omega) hQ1.1.1 hf
    rcases zib_cases w 6 (by decide) with ⟨w, hw, rfl⟩ | ⟨hw, hw2⟩
    · rw [q_in_ok hw (by decide)]
      refine ⟨zu I 1860 1 0, ?_, zu_same, em, hc⟩
      have e0 : (zmv2 (pnf P) (pnb P) I) 0 f = zu I 1860 1 0 1875 f := by rw [← em]; exact zmv20 hf
      have e1 : (zmv2 (pnf P) (pnb P) I) 1 f = zu I 1860 1 0 1876 f := by rw [← em]; exact zmv21 hf
      have e2 : (zmv2 (pnf P) (pnb P) I) 2 f = zu I 1860 1 0 1877 f := by rw [← em]; exact zmv22 hf
      have hbi := F7_bandsIn_ok hQ1.1 hp (nI f)
      rw [em] at hbi
      have hri := F7_riversOf_ok hQ1 hp hf
      obtain ⟨r1, r2⟩ := hQ1.1.2.2.2.2.2.1 f hf
      have z16 := zin_n (show f < 16 by omega)
      have h10 : ¬ (1 : Int32) = 0 := by decide
      rcases zsix hw with rfl | rfl | rfl | rfl | rfl | rfl | rfl
      all_goals
        simp (decide := true) only [decide_true, F_X7_forest, ↓reduceIte, zg_true, zb1_e, zb2_e, zb3_e, zsum, zlet_e, nI_1, hF, h10, zin_n (show f < 8 by omega), nI_c (show f < 2147483648 by omega), z16, r1, r2, hbi, hri, zb2_e, qV, e0, e1, e2, sp_bi]
        try rfl
    · rw [q_in_no hw2]
      have h10 : ¬ (1 : Int32) = 0 := by decide
      have n0 : ¬ w = 0 := z_ne (k := 0) hw2 (by decide) (by decide)
      have n1 : ¬ w = 1 := z_ne (k := 1) hw2 (by decide) (by decide)
      have n2 : ¬ w = 2 := z_ne (k := 2) hw2 (by decide) (by decide)
      have n3 : ¬ w = 3 := z_ne (k := 3) hw2 (by decide) (by decide)
      have n4 : ¬ w = 4 := z_ne (k := 4) hw2 (by decide) (by decide)
      have n5 : ¬ w = 5 := z_ne (k := 5) hw2 (by decide) (by decide)
      have n6 : ¬ w = 6 := z_ne (k := 6) hw2 (by decide) (by decide)
      (obtain ⟨J, g1, g2, g3, g4⟩ := F7_fail_ok (P := P) 1 1 rfl hc em; refine ⟨J, ?_, g2, g3, g4⟩; simp only [F_X7_forest, zlet_e, zb1_e, g1, zb2_e, qV, hF, ↓reduceIte, h10, not_false_eq_true, n0, n1, n2, n3, n4, n5, n6]; try first | rfl | exact zlt_if (n := 1) (by assumption))
  · rw [q_fa_no hx]
    have hF := F7_isF_no (by omega) hQ1.1.1 hx
    (obtain ⟨J, g1, g2, g3, g4⟩ := F7_fail_ok (P := P) 1 1 rfl hc em; refine ⟨J, ?_, g2, g3, g4⟩; simp only [F_X7_forest, zlet_e, zb1_e, g1, zb2_e, qV, hF]; try first | rfl | exact zlt_if (n := 1) (by assumption))
theorem F7_band_ok (hQ : zMQ I P X) (hp : pInv P) (hi : sInv P (zmv2 (pnf P) (pnb P) I)) (x w : Int32) : ∃ J, F_X7_band x w I = some (qV (q_band P (zmv2 (pnf P) (pnb P) I) x w), J) ∧ J 1860 1 = qE (q_band P (zmv2 (pnf P) (pnb P) I) x w) ∧ zmv2 (pnf P) (pnb P) J = zmv2 (pnf P) (pnb P) I ∧ zmf I J := by
  have hc := zmf_c1 (I := I) (v := 0)
  have hQ1 := hQ.mf hc
  have em : zmv2 (pnf P) (pnb P) (zu I 1860 1 0) = zmv2 (pnf P) (pnb P) I := zmv2_c1
  have hnf := hp.1
  have hnb := hp.2.1
  have h10 : ¬ (1 : Int32) = 0 := by decide
  unfold q_band
  rcases zir_cases x (n := pnb P) (by omega) with ⟨b, hb, rfl⟩ | hx
  · rw [q_fa_ok hb (by omega)]
    have hF := F7_isB_ok (by omega) hQ1.1.2.1 hb
    rcases zib_cases w 6 (by decide) with ⟨w, hw, rfl⟩ | ⟨hw, hw2⟩
    · rw [q_in_ok hw (by decide)]
      have e3 : (zmv2 (pnf P) (pnb P) I) 3 b = zu I 1860 1 0 1868 b := by rw [← em]; exact zmv23 hb
      have e4 : (zmv2 (pnf P) (pnb P) I) 4 b = zu I 1860 1 0 1878 b := by rw [← em]; exact zmv24 hb
      have e5 : (zmv2 (pnf P) (pnb P) I) 5 b = zu I 1860 1 0 1879 b := by rw [← em]; exact zmv25 hb
      have e6 : (zmv2 (pnf P) (pnb P) I) 6 b = zu I 1860 1 0 1880 b := by rw [← em]; exact zmv26 hb
      have e7 : (zmv2 (pnf P) (pnb P) I) 7 b = zu I 1860 1 0 1881 b := by rw [← em]; exact zmv27 hb
      have e8 : (zmv2 (pnf P) (pnb P) I) 8 b = zu I 1860 1 0 1882 b := by rw [← em]; exact zmv28 hb
      have z12 := zin_n (show b < 12 by omega)
      rcases zsix hw with rfl | rfl | rfl | rfl | rfl | rfl | rfl
      · exact ⟨zu I 1860 1 0, by (simp (decide := true) only [decide_true, F_X7_band, ↓reduceIte, zg_true, zb1_e, zb2_e, zb3_e, zsum, zlet_e, nI_1, hF, h10, z12, zin_n (show b < 6 by omega), nI_c (show b < 2147483648 by omega), qV, e3]), zu_same, em, hc⟩
      · exact ⟨zu I 1860 1 0, by (simp (decide := true) only [decide_true, F_X7_band, ↓reduceIte, zg_true, zb1_e, zb2_e, zb3_e, zsum, zlet_e, nI_1, hF, h10, z12, zin_n (show b < 6 by omega), nI_c (show b < 2147483648 by omega), qV, e4]), zu_same, em, hc⟩
      · exact ⟨zu I 1860 1 0, by (simp (decide := true) only [decide_true, F_X7_band, ↓reduceIte, zg_true, zb1_e, zb2_e, zb3_e, zsum, zlet_e, nI_1, hF, h10, z12, zin_n (show b < 6 by omega), nI_c (show b < 2147483648 by omega), qV, e5]), zu_same, em, hc⟩
      · exact ⟨zu I 1860 1 0, by (simp (decide := true) only [decide_true, F_X7_band, ↓reduceIte, zg_true, zb1_e, zb2_e, zb3_e, zsum, zlet_e, nI_1, hF, h10, z12, zin_n (show b < 6 by omega), nI_c (show b < 2147483648 by omega), qV, e6]), zu_same, em, hc⟩
      · exact ⟨zu I 1860 1 0, by (simp (decide := true) only [decide_true, F_X7_band, ↓reduceIte, zg_true, zb1_e, zb2_e, zb3_e, zsum, zlet_e, nI_1, hF, h10, z12, zin_n (show b < 6 by omega), nI_c (show b < 2147483648 by omega), qV, e7]), zu_same, em, hc⟩
      · exact ⟨zu I 1860 1 0, by (simp (decide := true) only [decide_true, F_X7_band, ↓reduceIte, zg_true, zb1_e, zb2_e, zb3_e, zsum, zlet_e, nI_1, hF, h10, z12, zin_n (show b < 6 by omega), nI_c (show b < 2147483648 by omega), qV, e8]), zu_same, em, hc⟩
      · obtain ⟨J, g1, g2⟩ := F7_takes_ok hQ1.1 hp (by rw [em]; exact hi) hb
        rw [em] at g1
        have g3 : zmf (zu I 1860 1 0) J := fun x k hx => by rw [g2 x (by intro e; subst e; simp [zmsc] at hx) (by intro e; subst e; simp [zmsc] at hx)]
        have g4 : zmv2 (pnf P) (pnb P) J = zmv2 (pnf P) (pnb P) (zu I 1860 1 0) := zmv2_cg fun x k hk => by rw [g2 x (by intro e; subst e; simp [zmok] at hk) (by intro e; subst e; simp [zmok] at hk)]
        exact ⟨J, by (simp (decide := true) only [decide_true, F_X7_band, ↓reduceIte, zg_true, zb1_e, zb2_e, zb3_e, zsum, zlet_e, nI_1, hF, h10, g1, zb2_e, qV]), by rw [g2 1860 (by decide) (by decide), zu_same]; rfl, by rw [g4, em], hc.tr g3⟩
    · rw [q_in_no hw2]
      have n0 : ¬ w = 0 := z_ne (k := 0) hw2 (by decide) (by decide)
      have n1 : ¬ w = 1 := z_ne (k := 1) hw2 (by decide) (by decide)
      have n2 : ¬ w = 2 := z_ne (k := 2) hw2 (by decide) (by decide)
      have n3 : ¬ w = 3 := z_ne (k := 3) hw2 (by decide) (by decide)
      have n4 : ¬ w = 4 := z_ne (k := 4) hw2 (by decide) (by decide)
      have n5 : ¬ w = 5 := z_ne (k := 5) hw2 (by decide) (by decide)
      have n6 : ¬ w = 6 := z_ne (k := 6) hw2 (by decide) (by decide)
      (obtain ⟨J, g1, g2, g3, g4⟩ := F7_fail_ok (P := P) 1 1 rfl hc em; refine ⟨J, ?_, g2, g3, g4⟩; simp only [F_X7_band, zlet_e, zb1_e, g1, zb2_e, qV, hF, ↓reduceIte, h10, not_false_eq_true, n0, n1, n2, n3, n4, n5, n6]; try first | rfl | exact zlt_if (n := 1) (by assumption))
  · rw [q_fa_no hx]
    have hF := F7_isB_no (by omega) hQ1.1.2.1 hx
    (obtain ⟨J, g1, g2, g3, g4⟩ := F7_fail_ok (P := P) 1 1 rfl hc em; refine ⟨J, ?_, g2, g3, g4⟩; simp only [F_X7_band, zlet_e, zb1_e, g1, zb2_e, qV, hF]; try first | rfl | exact zlt_if (n := 1) (by assumption))
theorem F7_count_ok (hQ : zMQ I P X) (hp : pInv P) (hi : sInv P (zmv2 (pnf P) (pnb P) I)) (hB : I 1860 37 = T.1 ∧ I 1860 38 = T.2.1 ∧ I 1860 15 = T.2.2.1 ∧ ∀ i, i < 3 → I 1873 i = T.2.2.2 i) (w : Int32) : ∃ J, F_X7_count w I = some (qV (q_count P X (zmv2 (pnf P) (pnb P) I) T w), J) ∧ J 1860 1 = qE (q_count P X (zmv2 (pnf P) (pnb P) I) T w) ∧ zmv2 (pnf P) (pnb P) J = zmv2 (pnf P) (pnb P) I ∧ zmf I J := by
  have hc := zmf_c1 (I := I) (v := 0)
  have hQ1 := hQ.mf hc
  have em : zmv2 (pnf P) (pnb P) (zu I 1860 1 0) = zmv2 (pnf P) (pnb P) I := zmv2_c1
  have hnf := hp.1
  have hnb := hp.2.1
  obtain ⟨b4, b5, b6, b7⟩ := hB
  unfold q_count
  rcases zib_cases w 16 (by decide) with ⟨w, hw, rfl⟩ | ⟨hw, hw2⟩
  · rw [q_in_ok hw (by decide)]
    refine ⟨zu I 1860 1 0, ?_, zu_same, em, hc⟩
    have al := F7_all_ok (nb := pnb P) hQ1.1.1 hp.1
    rw [em] at al
    obtain ⟨⟨m0, m2, m4, m5, m6, -⟩, m1, m3, -⟩ := hQ1
    have x0 : nI 14 - 14 = nI 0 := by decide
    have x1 : nI 15 - 14 = nI 1 := by decide
    have x2 : nI 16 - 14 = nI 2 := by decide
    have e90 : (zmv2 (pnf P) (pnb P) I) 9 0 = zu I 1860 1 0 1860 34 := by rw [← em]; rfl
    have e91 : (zmv2 (pnf P) (pnb P) I) 9 1 = zu I 1860 1 0 1860 35 := by rw [← em]; rfl
    have e92 : (zmv2 (pnf P) (pnb P) I) 9 2 = zu I 1860 1 0 1860 36 := by rw [← em]; rfl
    have c4 : zu I 1860 1 0 1860 37 = T.1 := by rw [zu_off (by omega)]; exact b4
    have c5 : zu I 1860 1 0 1860 38 = T.2.1 := by rw [zu_off (by omega)]; exact b5
    have c6 : zu I 1860 1 0 1860 15 = T.2.2.1 := by rw [zu_off (by omega)]; exact b6
    have c70 : zu I 1860 1 0 1873 0 = T.2.2.2 0 := by rw [zu_row (by decide)]; exact b7 0 (by decide)
    have c71 : zu I 1860 1 0 1873 1 = T.2.2.2 1 := by rw [zu_row (by decide)]; exact b7 1 (by decide)
    have c72 : zu I 1860 1 0 1873 2 = T.2.2.2 2 := by rw [zu_row (by decide)]; exact b7 2 (by decide)
    have y : ∀ k, k < 16 → zin (nI k) 16 = true := fun k hk => zin_n hk
    have y' : ∀ k, k < 16 → (nI k).toNatClampNeg = k := fun k hk => nI_c (by omega)
    rcases zsixt hw with rfl | rfl | rfl | rfl | rfl | rfl | rfl | rfl | rfl | rfl | rfl | rfl | rfl | rfl | rfl | rfl | rfl
    all_goals
      simp (decide := true) only [decide_true, F_X7_count, ↓reduceIte, zg_true, zb1_e, zb2_e, zb3_e, zsum, zlet_e, nI_1, m0, m1, m2, m3, m4, m5, m6, al, c4, c5, c6, x0, x1, x2, y 0 (by decide), y 1 (by decide), y 2 (by decide), y 3 (by decide), y 4 (by decide), y 5 (by decide), y 6 (by decide), y' 0 (by decide), y' 1 (by decide), y' 2 (by decide), y' 3 (by decide), y' 4 (by decide), y' 5 (by decide), y' 6 (by decide), zin_n (show 0 < 3 by decide), zin_n (show 1 < 3 by decide), zin_n (show 2 < 3 by decide), c70, c71, c72, e90, e91, e92, qV]
      try rfl
  · rw [q_in_no hw2]
    have n : ∀ k, k ≤ 16 → ¬ w = nI k := fun k hk => z_ne hw2 hk (by decide)
    have n0 : ¬ w = 0 := n 0 (by decide)
    have n1 : ¬ w = 1 := n 1 (by decide)
    have n2 : ¬ w = 2 := n 2 (by decide)
    have n3 : ¬ w = 3 := n 3 (by decide)
    have n4 : ¬ w = 4 := n 4 (by decide)
    have n5 : ¬ w = 5 := n 5 (by decide)
    have n6 : ¬ w = 6 := n 6 (by decide)
    have n7 : ¬ w = 7 := n 7 (by decide)
    have n8 : ¬ w = 8 := n 8 (by decide)
    have n9 : ¬ w = 9 := n 9 (by decide)
    have n10 : ¬ w = 10 := n 10 (by decide)
    have n11 : ¬ w = 11 := n 11 (by decide)
    have n12 : ¬ w = 12 := n 12 (by decide)
    have n13 : ¬ w = 13 := n 13 (by decide)
    have n14 : ¬ w = 14 := n 14 (by decide)
    have n15 : ¬ w = 15 := n 15 (by decide)
    have n16 : ¬ w = 16 := n 16 (by decide)
    (obtain ⟨J, g1, g2, g3, g4⟩ := F7_fail_ok (P := P) 1 1 rfl hc em; refine ⟨J, ?_, g2, g3, g4⟩; simp only [F_X7_count, zlet_e, zb1_e, g1, zb2_e, qV, ↓reduceIte, n0, n1, n2, n3, n4, n5, n6, n7, n8, n9, n10, n11, n12, n13, n14, n15, n16]; try first | rfl | exact zlt_if (n := 1) (by assumption))
end L36
