/-! L31: far, first, meeting -/
def zorn (v : Int32) : Int32 := if v < 100000 then v else -1
def zmn (v : Nat → Int32) : Nat → Int32 × Int32
  | 0 => (-1, 100000)
  | n + 1 => if v n < (zmn v n).2 then (nI n, v n) else zmn v n
theorem zmn_1 {v : Nat → Int32} : ∀ n, n < 1000 → ((zmn v n).1 = -1 ∧ (zmn v n).2 = 100000) ∨ (¬ (zmn v n).1 = -1 ∧ (zmn v n).2 < 100000)
  | 0, _ => Or.inl ⟨rfl, rfl⟩
  | n + 1, h => by
    have ih := zmn_1 (v := v) n (by omega)
    rw [zmn]
    split
    · rename_i c
      refine Or.inr ⟨nI_m1 (by omega), ?_⟩
      dsimp only
      rcases ih with ⟨-, e⟩ | ⟨-, e⟩
      · rw [e] at c; exact c
      · have h1 := iL.mp c; have h2 := iL.mp e; exact iL.mpr (by omega)
    · exact ih
def q_far (P : zP) (X : zXd) (x y : Int32) : Int32 ⊕ Nat := q_fa (pnf P) x fun i => q_fa (pnf P) y fun j => .inl (zorn (xds X i j))
def q_first (P : zP) (X : zXd) (S : zS) (x : Int32) : Int32 ⊕ Nat := q_fa (pnb P) x fun b => .inl (zmn (fun k => xds X (xft X k) (sp_f S b)) (xnt X)).1
def sp_mt (X : zXd) (i j f : Nat) : Int32 := zmax (xds X (xft X i) f) (xds X (xft X j) f)
def q_meet (P : zP) (X : zXd) (x y w : Int32) : Int32 ⊕ Nat := q_fa (xnt X) x fun i => q_fa (xnt X) y fun j => q_in w 1 1 fun w => .inl (if w = 0 then (zmn (sp_mt X i j) (pnf P)).1 else zorn (zmn (sp_mt X i j) (pnf P)).2)
section L31
variable {K : zKd} {F : zFd} {I : zId} {a N : Nat} {P : zP} {X : zXd}
theorem F_cfar_ok (h : zCQ K F I a N P X) (hp : pInv P) {i j : Nat} (hi : i < pnf P) (hj : j < pnf P) : F_X2_far K F a (nI i) (nI j) I = some (xds X i j) := by
  have hnf := hp.1
  obtain ⟨-, -, -, -, hL, hQ, -⟩ := h
  obtain ⟨l1, l2, l3, -⟩ := hL
  obtain ⟨-, -, -, ⟨-, -, f8, k8⟩, h9⟩ := hQ
  rw [F_rd_ok l3 l1 f8 k8 (by omega) (by omega), (h9 i j hi hj).2]
theorem F_orn_ok (v : Int32) : F_X1_orNone K F v I = some (zorn v) := by
  unfold F_X1_orNone zorn
  split <;> rfl
theorem F_far_ok (h : zCQ K F I a N P X) (hp : pInv P) (x y : Int32) : F_X1_far K F 1000 x y I = some (qC (q_far P X x y), I) := by
  have hnf := hp.1
  have k0 := h.1
  have f0 := h.2.1.1
  have l3 := h.2.2.2.2.1.2.2.1
  unfold q_far
  rcases zir_cases x (n := pnf P) (by omega) with ⟨f, hf, rfl⟩ | hx
  · rw [q_fa_ok hf (by omega)]
    obtain ⟨o, ho, -⟩ := F_forestAt_ok h hp hf
    rcases zir_cases y (n := pnf P) (by omega) with ⟨j, hj, rfl⟩ | hy
    · rw [q_fa_ok hj (by omega)]
      obtain ⟨o2, ho2, -⟩ := F_forestAt_ok h hp hj
      simp only [F_X1_far, ↓zka_eq k0, ho, ho2, ↓reduceIte, zg_true, zb1_e, zb2_e, zb3_e, zsum, zlet_e, nI_1, zb2_e, d1000, f0, ↓zka_eq l3, F_cfar_ok h hp hf hj, F_orn_ok, qC]
    · rw [q_fa_no hy]
      simp only [F_X1_far, ↓zka_eq k0, ho, F_forestAt_no h hy, ↓reduceIte, zg_true, zb1_e, zb2_e, zb3_e, zsum, zlet_e, nI_1, zb2_e, qC]
  · rw [q_fa_no hx]
    simp only [F_X1_far, ↓zka_eq k0, F_forestAt_no h hx, ↓reduceIte, zg_true, zb1_e, zb2_e, zb3_e, zsum, zlet_e, nI_1, zb2_e, qC]
theorem F_first_ok (h : zCQ K F I a N P X) (hp : pInv P) (hi : sInv P (zcv (pnf P) (pnb P) I 1014)) (hx : xInv P X) (x : Int32) : F_X1_first K F 1000 x I = some (qC (q_first P X (zcv (pnf P) (pnb P) I 1014) x), I) := by
  obtain ⟨h1, h2⟩ := F_tl_ok h
  have e0 : zcv (pnf P) (pnb P) (zlk I 1847 1014) 1847 = zcv (pnf P) (pnb P) I 1014 := zlk_cv hp.1 hp.2.1 (by decide)
  have h0 := h
  have hnf := hp.1
  have hnb := hp.2.1
  obtain ⟨k0, ⟨f0, f1, f2, f3, f4, f6, f9, f10⟩, ⟨kt, kw, ks⟩, ⟨hN, hT⟩, hL, hQ, hd⟩ := h
  have hx' := hx
  unfold q_first
  rcases zir_cases x (n := pnb P) (by omega) with ⟨b, hb, rfl⟩ | hx
  · rw [q_fa_ok hb (by omega)]
    have hB := F_bandAt_ok h0 hp hb
    obtain ⟨ea, haf⟩ := hi.at' hp hb
    have ea' : I 1019 b = nI (sp_f (zcv (pnf P) (pnb P) I 1014) b) := by rw [← ea]; exact (zcv4 hb).symm
    obtain ⟨n6, nk, ⟨-, -, -, -, nf4, -⟩, -, -, -, -, nk5, -⟩ := hN
    obtain ⟨l1, l2, l3, -⟩ := hL
    obtain ⟨-, ⟨E, g1, g2, g3⟩, hc, -, -⟩ := hQ
    have s := zloop_up (body := fun s : Int32 × Int32 × Int32 => F_X1_first_L14 K F 1000 (nI b) I s.1 s.2.1 s.2.2) (fun k s => s = ((zmn (fun k => xds X (xft X k) (sp_f (zcv (pnf P) (pnb P) I 1014) b)) k).1, (zmn (fun k => xds X (xft X k) (sp_f (zcv (pnf P) (pnb P) I 1014) b)) k).2, nI k)) (fun t => t = (zmn (fun k => xds X (xft X k) (sp_f (zcv (pnf P) (pnb P) I 1014) b)) (xnt X)).1) (xnt X) ?_ ?_ 0 (-1, 100000, 0) (Nat.zero_le _) rfl
    · obtain ⟨t, t1, rfl⟩ := s
      simp only [F_X1_first, ↓zka_eq k0, hB, ↓reduceIte, zg_true, zb1_e, zb2_e, zb3_e, zsum, zlet_e, nI_1, zb2_e, t1, qC]
    · rintro k _ hk rfl
      dsimp only
      have hnt := hx'.1
      have hfk := hx'.2 k hk
      obtain ⟨c1, c2⟩ := hc (xft X k) (by omega)
      have hfar := F_cfar_ok h0 hp hfk haf
      refine Or.inl ⟨((zmn (fun k => xds X (xft X k) (sp_f (zcv (pnf P) (pnb P) I 1014) b)) (k + 1)).1, (zmn (fun k => xds X (xft X k) (sp_f (zcv (pnf P) (pnb P) I 1014) b)) (k + 1)).2, nI (k + 1)), ?_, rfl⟩
      rw [zmn]
      by_cases c : xds X (xft X k) (sp_f (zcv (pnf P) (pnb P) I 1014) b) < (zmn (fun k => xds X (xft X k) (sp_f (zcv (pnf P) (pnb P) I 1014) b)) k).2
      · simp only [F_X1_first_L14, F_J17_intValue, ↓zka_eq k0, d1000, d1014, f0, f3, ↓reduceIte, zg_true, zb1_e, zb2_e, zb3_e, zsum, zlet_e, nI_1, ↓zka_eq l3, decide_eq_true l1, g1, ↓zka_eq g2.2.1, zAL_size g2, nI_ge hk (show xnt X < 2 ^ 31 by omega), zAL_get g2 (by omega) hk (g3 k hk), ↓zka_eq c1, c2, ↓zka_eq nk, nf4, ↓zka_eq nk5, zin_n (show b < 6 by omega), nI_c (show b < 2147483648 by omega), ea', hfar, c]
      · simp only [F_X1_first_L14, F_J17_intValue, ↓zka_eq k0, d1000, d1014, f0, f3, ↓reduceIte, zg_true, zb1_e, zb2_e, zb3_e, zsum, zlet_e, nI_1, ↓zka_eq l3, decide_eq_true l1, g1, ↓zka_eq g2.2.1, zAL_size g2, nI_ge hk (show xnt X < 2 ^ 31 by omega), zAL_get g2 (by omega) hk (g3 k hk), ↓zka_eq c1, c2, ↓zka_eq nk, nf4, ↓zka_eq nk5, zin_n (show b < 6 by omega), nI_c (show b < 2147483648 by omega), ea', hfar, c]
    · rintro _ rfl
      have hnt := hx'.1
      dsimp only
      simp only [F_X1_first_L14, ↓zka_eq k0, d1000, f0, zg_true, zb1_e, ↓zka_eq l3, decide_eq_true l1, g1, ↓zka_eq g2.2.1, zAL_size g2, ↓reduceIte, nI_le (Nat.le_refl (xnt X)) (show xnt X < 2 ^ 31 by omega)]
      exact ⟨_, rfl, rfl⟩
  · rw [q_fa_no hx]
    simp only [F_X1_first, ↓zka_eq k0, F_bandAt_no h0 hx, ↓reduceIte, zg_true, zb1_e, zb2_e, zb3_e, zsum, zlet_e, nI_1, zb2_e, qC]
theorem F_meet_ok (h : zCQ K F I a N P X) (hp : pInv P) (hX : xInv P X) (x y w : Int32) : F_X1_meeting K F 1000 x y w I = some (qC (q_meet P X x y w), I) := by
  have hnf := hp.1
  have hnt := hX.1
  have k0 := h.1
  have f0 := h.2.1.1
  have l3 := h.2.2.2.2.1.2.2.1
  unfold q_meet
  rcases zir_cases x (n := xnt X) (by omega) with ⟨i, hi, rfl⟩ | hx
  · rw [q_fa_ok hi (by omega)]
    have h1 := F_fortAt_ok h hX hp hi
    rcases zir_cases y (n := xnt X) (by omega) with ⟨j, hj, rfl⟩ | hy
    · rw [q_fa_ok hj (by omega)]
      have h2 := F_fortAt_ok h hX hp hj
      rcases zib_cases w 1 (by decide) with ⟨w, hw, rfl⟩ | ⟨hw, hw2⟩
      · rw [q_in_ok hw (by decide)]
        have ew : F_X1_within K F (nI w) 0 1 I = some 1 := by rw [F_within_ok]; exact congrArg some (zib_nI hw (by decide))
        have hw0 : (nI w = 0) ↔ w = 0 := nI_eq (b := 0) (by omega) (by omega)
        have s := zloop_up (body := fun s : Int32 × Int32 × Int32 => F_X1_meeting_L34 K F 1000 (nI (xft X i)) (nI (xft X j)) I s.1 s.2.1 s.2.2) (fun k s => s = ((zmn (sp_mt X i j) k).1, (zmn (sp_mt X i j) k).2, nI k)) (fun t => t = zmn (sp_mt X i j) (pnf P)) (pnf P) ?_ ?_ 0 (-1, 100000, 0) (Nat.zero_le _) rfl
        · obtain ⟨t, t1, rfl⟩ := s
          simp only [F_X1_meeting, ↓zka_eq k0, h1, h2, ew, F_there_1, ↓reduceIte, zg_true, zb1_e, zb2_e, zb3_e, zsum, zlet_e, nI_1, zb2_e, t1, zn2, F_orn_ok, qC, hw0]
          by_cases c : w = 0
          · rw [if_neg (fun h => h c), if_pos c]
          · rw [if_pos c, if_neg c]
        · rintro k _ hk rfl
          dsimp only
          have e1 := F_cfar_ok h hp (hX.2 i hi) hk
          have e2 := F_cfar_ok h hp (hX.2 j hj) hk
          refine Or.inl ⟨((zmn (sp_mt X i j) (k + 1)).1, (zmn (sp_mt X i j) (k + 1)).2, nI (k + 1)), ?_, rfl⟩
          rw [zmn]
          have em : zmax (xds X (xft X i) k) (xds X (xft X j) k) = sp_mt X i j k := rfl
          by_cases c : sp_mt X i j k < (zmn (sp_mt X i j) k).2
          · simp only [F_X1_meeting_L34, ↓zka_eq k0, F_forests_ok h, ↓reduceIte, zg_true, zb1_e, zb2_e, zb3_e, zsum, zlet_e, nI_1, nI_ge hk (show pnf P < 2 ^ 31 by omega), d1000, f0, ↓zka_eq l3, e1, e2, em, c]
          · simp only [F_X1_meeting_L34, ↓zka_eq k0, F_forests_ok h, ↓reduceIte, zg_true, zb1_e, zb2_e, zb3_e, zsum, zlet_e, nI_1, nI_ge hk (show pnf P < 2 ^ 31 by omega), d1000, f0, ↓zka_eq l3, e1, e2, em, c]
        · rintro _ rfl
          dsimp only
          simp only [F_X1_meeting_L34, ↓zka_eq k0, F_forests_ok h, zb1_e, ↓reduceIte, nI_le (Nat.le_refl (pnf P)) (show pnf P < 2 ^ 31 by omega)]
          exact ⟨_, rfl, rfl⟩
      · rw [q_in_no hw2]
        have ew : F_X1_within K F w 0 1 I = some 0 := by rw [F_within_ok]; exact congrArg some hw
        simp only [F_X1_meeting, ↓zka_eq k0, h1, h2, ew, F_there_0, ↓reduceIte, zg_true, zb1_e, zb2_e, zb3_e, zsum, zlet_e, nI_1, zb2_e, qC]
    · rw [q_fa_no hy]
      simp only [F_X1_meeting, ↓zka_eq k0, h1, F_fortAt_no h hy, ↓reduceIte, zg_true, zb1_e, zb2_e, zb3_e, zsum, zlet_e, nI_1, zb2_e, qC]
  · rw [q_fa_no hx]
    simp only [F_X1_meeting, ↓zka_eq k0, F_fortAt_no h hx, ↓reduceIte, zg_true, zb1_e, zb2_e, zb3_e, zsum, zlet_e, nI_1, zb2_e, qC]
/-! the model -/
def zmd (I J : zId) : Prop := ∀ x, x ≠ 1887 → J x = I x
theorem zmd.rf : zmd I I := fun _ _ => rfl
theorem zmd.tr {J L : zId} (h1 : zmd I J) (h2 : zmd J L) : zmd I L := fun x h => (h2 x h).trans (h1 x h)
theorem zmd.mf {J : zId} (h : zmd I J) : zmf I J := fun x k hx => by rw [h x (by intro e; subst e; simp [zmsc] at hx)]
theorem zmd.mv {J : zId} (h : zmd I J) {nf nb : Nat} : zmv2 nf nb J = zmv2 nf nb I := zmv2_cg fun x k hk => by rw [h x (by intro e; subst e; simp [zmok] at hk)]
theorem F7_far_ok (hQ : zMQ I P X) (hp : pInv P) (hi : sInv P (zmv2 (pnf P) (pnb P) I)) (hw : zwd (pnf P) (xrv X)) (hD : isD (pnf P) (xrv X) (xds X)) (x y : Int32) : ∃ J, F_X7_far x y I = some (qV (q_far P X x y), J) ∧ J 1860 1 = qE (q_far P X x y) ∧ zmv2 (pnf P) (pnb P) J = zmv2 (pnf P) (pnb P) I ∧ zmf I J := by
  have hc := zmf_c1 (I := I) (v := 0)
  have hQ1 := hQ.mf hc
  have em : zmv2 (pnf P) (pnb P) (zu I 1860 1 0) = zmv2 (pnf P) (pnb P) I := zmv2_c1
  have hnf := hp.1
  have hnb := hp.2.1
  have h10 : ¬ (1 : Int32) = 0 := by decide
  unfold q_far
  rcases zir_cases x (n := pnf P) (by omega) with ⟨f, hf, rfl⟩ | hx
  · rw [q_fa_ok hf (by omega)]
    have hF := F7_isF_ok (by omega) hQ1.1.1 hf
    rcases zir_cases y (n := pnf P) (by omega) with ⟨j, hj, rfl⟩ | hy
    · rw [q_fa_ok hj (by omega)]
      have hF2 := F7_isF_ok (by omega) hQ1.1.1 hj
      obtain ⟨J, g1, g2⟩ := F7_farOf_ok hQ1 hp hw hD hf hj
      have g3 : zmd (zu I 1860 1 0) J := g2
      refine ⟨J, ?_, by rw [g2 _ (by decide), zu_same]; rfl, by rw [g3.mv, em], hc.tr g3.mf⟩
      simp only [F_X7_far, hF, hF2, ↓reduceIte, zg_true, zb1_e, zb2_e, zb3_e, zsum, zlet_e, nI_1, zb2_e, h10, not_false_eq_true, g1, qV, zorn]
      split <;> rfl
    · rw [q_fa_no hy]
      have hF2 := F7_isF_no (by omega) hQ1.1.1 hy
      (obtain ⟨J, g1, g2, g3, g4⟩ := F7_fail_ok (P := P) 1 1 rfl hc em; refine ⟨J, ?_, g2, g3, g4⟩; simp only [F_X7_far, zlet_e, zb1_e, g1, zb2_e, qV, hF, hF2, if_neg h10]; try first | rfl | exact zlt_if (n := 1) (by assumption))
  · rw [q_fa_no hx]
    have hF := F7_isF_no (by omega) hQ1.1.1 hx
    (obtain ⟨J, g1, g2, g3, g4⟩ := F7_fail_ok (P := P) 1 1 rfl hc em; refine ⟨J, ?_, g2, g3, g4⟩; simp only [F_X7_far, zlet_e, zb1_e, g1, zb2_e, qV, hF]; try first | rfl | exact zlt_if (n := 1) (by assumption))
theorem F7_first_ok (hQ : zMQ I P X) (hp : pInv P) (hi : sInv P (zmv2 (pnf P) (pnb P) I)) (hX : xInv P X) (hw : zwd (pnf P) (xrv X)) (hD : isD (pnf P) (xrv X) (xds X)) (x : Int32) : ∃ J, F_X7_first x I = some (qV (q_first P X (zmv2 (pnf P) (pnb P) I) x), J) ∧ J 1860 1 = qE (q_first P X (zmv2 (pnf P) (pnb P) I) x) ∧ zmv2 (pnf P) (pnb P) J = zmv2 (pnf P) (pnb P) I ∧ zmf I J := by
  have hc := zmf_c1 (I := I) (v := 0)
  have hQ1 := hQ.mf hc
  have em : zmv2 (pnf P) (pnb P) (zu I 1860 1 0) = zmv2 (pnf P) (pnb P) I := zmv2_c1
  have hnf := hp.1
  have hnb := hp.2.1
  have hnt := hX.1
  unfold q_first
  rcases zir_cases x (n := pnb P) (by omega) with ⟨b, hb, rfl⟩ | hx
  · rw [q_fa_ok hb (by omega)]
    have hF := F7_isB_ok (by omega) hQ1.1.2.1 hb
    obtain ⟨ea, haf⟩ := hi.at' hp hb
    have s := zloop_up (body := fun s : Int32 × Int32 × Int32 × zId => F_X7_first_L27 (nI b) s.1 s.2.1 s.2.2.1 s.2.2.2) (fun k s => (s.1, s.2.1) = zmn (fun k => xds X (xft X k) (sp_f (zmv2 (pnf P) (pnb P) I) b)) k ∧ s.2.2.1 = nI k ∧ zmd (zu I 1860 1 0) s.2.2.2) (fun t => t.1 = (zmn (fun k => xds X (xft X k) (sp_f (zmv2 (pnf P) (pnb P) I) b)) (xnt X)).1 ∧ zmd (zu I 1860 1 0) t.2) (xnt X) ?_ ?_ 0 (-1, 100000, 0, zu I 1860 1 0) (Nat.zero_le _) ⟨rfl, rfl, zmd.rf⟩
    · obtain ⟨⟨t, J⟩, t1, t2, t3⟩ := s
      dsimp only at t2 t3
      refine ⟨J, ?_, by rw [t3 _ (by decide), zu_same]; rfl, by rw [t3.mv, em], hc.tr t3.mf⟩
      simp only [F_X7_first, hF, ↓reduceIte, zg_true, zb1_e, zb2_e, zb3_e, zsum, zlet_e, nI_1, show ¬ (1 : Int32) = 0 by decide, not_false_eq_true, t1, zn2, t2, qV]
    · rintro k ⟨t1, t2, _, J⟩ hk ⟨e1, rfl, e2⟩
      dsimp only at e1 e2
      have hJ := hQ1.mf e2.mf
      have hfk := hX.2 k hk
      obtain ⟨J1, g1, g2⟩ := F7_farOf_ok hJ hp hw hD hfk haf
      have ea' : J 1878 b = nI (sp_f (zmv2 (pnf P) (pnb P) I) b) := by rw [← ea, ← em, ← e2.mv]; exact (zmv24 hb).symm
      have eft := hJ.2.2.2.1 k hk
      have ent := hJ.2.2.1
      by_cases c : xds X (xft X k) (sp_f (zmv2 (pnf P) (pnb P) I) b) < t2
      · refine Or.inl ⟨(nI k, xds X (xft X k) (sp_f (zmv2 (pnf P) (pnb P) I) b), nI (k + 1), J1), ?_, by rw [zmn, ← e1, if_pos c], rfl, e2.tr g2⟩
        dsimp only
        simp only [F_X7_first_L27, ent, nI_ge hk (show xnt X < 2 ^ 31 by omega), ↓reduceIte, zg_true, zb1_e, zb2_e, zb3_e, zsum, zlet_e, nI_1, zb2_e, zin_n (show k < 6 by omega), nI_c (show k < 2147483648 by omega), zin_n (show b < 6 by omega), nI_c (show b < 2147483648 by omega), eft, ea', g1, c]
      · refine Or.inl ⟨(t1, t2, nI (k + 1), J1), ?_, by rw [zmn, ← e1, if_neg c], rfl, e2.tr g2⟩
        dsimp only
        simp only [F_X7_first_L27, ent, nI_ge hk (show xnt X < 2 ^ 31 by omega), ↓reduceIte, zg_true, zb1_e, zb2_e, zb3_e, zsum, zlet_e, nI_1, zb2_e, zin_n (show k < 6 by omega), nI_c (show k < 2147483648 by omega), zin_n (show b < 6 by omega), nI_c (show b < 2147483648 by omega), eft, ea', g1, c]
    · rintro ⟨t1, t2, _, J⟩ ⟨e1, rfl, e2⟩
      have ent := (hQ1.mf e2.mf).2.2.1
      refine ⟨(t1, J), ?_, congrArg Prod.fst e1, e2⟩
      dsimp only at ent ⊢
      simp only [F_X7_first_L27, ent, ↓reduceIte, nI_le (Nat.le_refl (xnt X)) (show xnt X < 2 ^ 31 by omega)]
  · rw [q_fa_no hx]
    have hF := F7_isB_no (by omega) hQ1.1.2.1 hx
    (obtain ⟨J, g1, g2, g3, g4⟩ := F7_fail_ok (P := P) 1 1 rfl hc em; refine ⟨J, ?_, g2, g3, g4⟩; simp only [F_X7_first, zlet_e, zb1_e, g1, zb2_e, qV, hF]; try first | rfl | exact zlt_if (n := 1) (by assumption))
theorem F7_meet_ok (hQ : zMQ I P X) (hp : pInv P) (hi : sInv P (zmv2 (pnf P) (pnb P) I)) (hX : xInv P X) (hw : zwd (pnf P) (xrv X)) (hD : isD (pnf P) (xrv X) (xds X)) (x y w : Int32) : ∃ J, F_X7_meeting x y w I = some (qV (q_meet P X x y w), J) ∧ J 1860 1 = qE (q_meet P X x y w) ∧ zmv2 (pnf P) (pnb P) J = zmv2 (pnf P) (pnb P) I ∧ zmf I J := by
  have hc := zmf_c1 (I := I) (v := 0)
  have hQ1 := hQ.mf hc
  have em : zmv2 (pnf P) (pnb P) (zu I 1860 1 0) = zmv2 (pnf P) (pnb P) I := zmv2_c1
  have hnf := hp.1
  have hnb := hp.2.1
  have hnt := hX.1
  have h10 : ¬ (1 : Int32) = 0 := by decide
  unfold q_meet
  rcases zir_cases x (n := xnt X) (by omega) with ⟨i, hi', rfl⟩ | hx
  · rw [q_fa_ok hi' (by omega)]
    have hF := F7_isK_ok (by omega) hQ1.2.2.1 hi'
    rcases zir_cases y (n := xnt X) (by omega) with ⟨j, hj, rfl⟩ | hy
    · rw [q_fa_ok hj (by omega)]
      have hF2 := F7_isK_ok (by omega) hQ1.2.2.1 hj
      rcases zib_cases w 1 (by decide) with ⟨w, hw', rfl⟩ | ⟨hw', hw2⟩
      · rw [q_in_ok hw' (by decide)]
        have c0 : ¬ nI w < 0 := nI_pos (by omega)
        have c1 : nI w ≤ 1 := nI_le hw' (by decide)
        have hw0 : (nI w = 0) ↔ w = 0 := nI_eq (b := 0) (by omega) (by omega)
        have s := zloop_up (body := fun s : Int32 × Int32 × Int32 × zId => F_X7_meeting_L46 (nI i) (nI j) s.1 s.2.1 s.2.2.1 s.2.2.2) (fun k s => (s.1, s.2.1) = zmn (sp_mt X i j) k ∧ s.2.2.1 = nI k ∧ zmd (zu I 1860 1 0) s.2.2.2) (fun t => (t.1, t.2.1) = zmn (sp_mt X i j) (pnf P) ∧ zmd (zu I 1860 1 0) t.2.2) (pnf P) ?_ ?_ 0 (-1, 100000, 0, zu I 1860 1 0) (Nat.zero_le _) ⟨rfl, rfl, zmd.rf⟩
        · obtain ⟨⟨t1, t2, J⟩, s1, s2, s3⟩ := s
          dsimp only at s2 s3
          refine ⟨J, ?_, by rw [s3 _ (by decide), zu_same]; rfl, by rw [s3.mv, em], hc.tr s3.mf⟩
          have hz := zmn_1 (v := sp_mt X i j) (pnf P) (by omega)
          rw [← s2] at hz
          dsimp only at hz
          simp only [F_X7_meeting, hF, hF2, ↓reduceIte, zg_true, zb1_e, zb2_e, zb3_e, zsum, zlet_e, nI_1, h10, c0, c1, s1, zn3, qV, hw0, ← s2, zorn]
          by_cases c : w = 0
          · rw [if_pos c, if_pos c]
          · rw [if_neg c, if_neg c]
            rcases hz with ⟨z1, z2⟩ | ⟨z1, z2⟩
            · rw [if_neg (fun h => h z1), z1, z2]; rfl
            · rw [if_pos z1, if_pos z2]
        · rintro k ⟨t1, t2, _, J⟩ hk ⟨e1, rfl, e2⟩
          dsimp only at e1 e2
          have hJ := hQ1.mf e2.mf
          obtain ⟨J1, g1, g2⟩ := F7_farOf_ok hJ hp hw hD (hX.2 i hi') hk
          have g2' : zmd J J1 := g2
          have hJ1 := hJ.mf g2'.mf
          obtain ⟨J2, m1, m2⟩ := F7_farOf_ok hJ1 hp hw hD (hX.2 j hj) hk
          have f1 := hJ.2.2.2.1 i hi'
          have f2 := hJ1.2.2.2.1 j hj
          have em2 : zmax (xds X (xft X i) k) (xds X (xft X j) k) = sp_mt X i j k := rfl
          by_cases c : sp_mt X i j k < t2
          · refine Or.inl ⟨(nI k, sp_mt X i j k, nI (k + 1), J2), ?_, by rw [zmn, ← e1, if_pos c], rfl, (e2.tr g2).tr m2⟩
            dsimp only
            simp only [F_X7_meeting_L46, hJ.1.1, nI_ge hk (show pnf P < 2 ^ 31 by omega), ↓reduceIte, zg_true, zb1_e, zb2_e, zb3_e, zsum, zlet_e, nI_1, zb2_e, zin_n (show i < 6 by omega), nI_c (show i < 2147483648 by omega), zin_n (show j < 6 by omega), nI_c (show j < 2147483648 by omega), f1, f2, g1, m1, em2, c]
          · refine Or.inl ⟨(t1, t2, nI (k + 1), J2), ?_, by rw [zmn, ← e1, if_neg c], rfl, (e2.tr g2).tr m2⟩
            dsimp only
            simp only [F_X7_meeting_L46, hJ.1.1, nI_ge hk (show pnf P < 2 ^ 31 by omega), ↓reduceIte, zg_true, zb1_e, zb2_e, zb3_e, zsum, zlet_e, nI_1, zb2_e, zin_n (show i < 6 by omega), nI_c (show i < 2147483648 by omega), zin_n (show j < 6 by omega), nI_c (show j < 2147483648 by omega), f1, f2, g1, m1, em2, c]
        · rintro ⟨t1, t2, _, J⟩ ⟨e1, rfl, e2⟩
          have ent := (hQ1.mf e2.mf).1.1
          refine ⟨(t1, t2, J), ?_, e1, e2⟩
          dsimp only at ent ⊢
          simp only [F_X7_meeting_L46, ent, ↓reduceIte, nI_le (Nat.le_refl (pnf P)) (show pnf P < 2 ^ 31 by omega)]
      · rw [q_in_no hw2]
        (obtain ⟨J, g1, g2, g3, g4⟩ := F7_fail_ok (P := P) 1 1 rfl hc em; refine ⟨J, ?_, g2, g3, g4⟩; simp only [F_X7_meeting, zlet_e, zb1_e, g1, zb2_e, qV, hF, hF2, if_neg h10]; try first | rfl | exact zlt_if (n := 1) (by assumption))
    · rw [q_fa_no hy]
      have hF2 := F7_isK_no (by omega) hQ1.2.2.1 hy
      (obtain ⟨J, g1, g2, g3, g4⟩ := F7_fail_ok (P := P) 1 1 rfl hc em; refine ⟨J, ?_, g2, g3, g4⟩; simp only [F_X7_meeting, zlet_e, zb1_e, g1, zb2_e, qV, hF, hF2, if_neg h10, if_true]; try first | rfl | exact zlt_if (n := 1) (by assumption))
  · rw [q_fa_no hx]
    have hF := F7_isK_no (by omega) hQ1.2.2.1 hx
    (obtain ⟨J, g1, g2, g3, g4⟩ := F7_fail_ok (P := P) 1 1 rfl hc em; refine ⟨J, ?_, g2, g3, g4⟩; simp only [F_X7_meeting, zlet_e, zb1_e, g1, zb2_e, qV, hF, if_true]; try first | rfl | exact zlt_if (n := 1) (by assumption))
end L31
