/-! L32: games -/
theorem zlet_if {α β : Type} {C : Prop} [Decidable C] (f : α → β) (u v : α) : zlet f (fun k => if ¬ C then k u else k v) = f (if C then v else u) := by
  rw [zlet_e]
  by_cases c : C
  · rw [if_neg (fun h => h c), if_pos c]
  · rw [if_pos c, if_neg c]
def sp_gn (X : zXd) (S : zS) (i j t h : Nat) : Int32 :=
  if xds X (xft X i) (sp_f S t) < 100000 then
    (if xds X (xft X i) (sp_f S t) ≤ (if h = t then xds X (xft X j) (sp_f S t) else 100000) then
      (if (if h = t then xds X (xft X j) (sp_f S t) else 100000) = xds X (xft X i) (sp_f S t) then S 6 t / 2 else S 6 t) else 0)
  else 0
def sp_x (b c g : Nat) : Nat := if g = 0 then b else c
def sp_gc (X : zXd) (S : zS) (i j b c g : Nat) : Prop := sp_gn X S i j (sp_x b c (g / 2)) (sp_x b c (g % 2)) < sp_gn X S i j (b + c - sp_x b c (g / 2)) (sp_x b c (g % 2)) ∨ ¬ sp_gn X S j i (b + c - sp_x b c (g % 2)) (sp_x b c (g / 2)) ≤ sp_gn X S j i (sp_x b c (g % 2)) (sp_x b c (g / 2))
noncomputable def sp_gm (X : zXd) (S : zS) (i j b c : Nat) : Nat → Int32 × Int32
  | 0 => (0, -1)
  | g + 1 => @ite _ (sp_gc X S i j b c g) (Classical.propDecidable _) (sp_gm X S i j b c g) ((sp_gm X S i j b c g).1 + 1, if (sp_gm X S i j b c g).2 = -1 then nI (g / 2 * 10 + g % 2) else (sp_gm X S i j b c g).2)
noncomputable def q_game (P : zP) (X : zXd) (S : zS) (x y u v w : Int32) : Int32 ⊕ Nat := q_fa (xnt X) x fun i => q_fa (xnt X) y fun j => q_fa (pnb P) u fun b => q_fa (pnb P) v fun c => q_in w 1 1 fun w => if i = j ∨ b = c then .inr 2 else .inl (if w = 0 then (sp_gm X S i j b c 4).1 else (sp_gm X S i j b c 4).2)
theorem sp_gm_n {X : zXd} {S : zS} {i j b c g : Nat} (h : ¬ sp_gc X S i j b c g) : sp_gm X S i j b c (g + 1) = ((sp_gm X S i j b c g).1 + 1, if (sp_gm X S i j b c g).2 = -1 then nI (g / 2 * 10 + g % 2) else (sp_gm X S i j b c g).2) := by
  rw [sp_gm, if_neg h]
theorem sp_gm_y {X : zXd} {S : zS} {i j b c g : Nat} (h : sp_gc X S i j b c g) : sp_gm X S i j b c (g + 1) = sp_gm X S i j b c g := by
  rw [sp_gm, if_pos h]
theorem nI_xx {b c g : Nat} (hg : g < 1000) : (if nI g = 0 then nI b else nI c) = nI (sp_x b c g) := by
  unfold sp_x
  by_cases e : g = 0
  · subst e; rw [if_pos (show nI 0 = 0 from rfl), if_pos rfl]
  · rw [if_neg (nI_ne0 (by omega) (by omega)), if_neg e]
theorem sp_x_or (b c g : Nat) : sp_x b c g = b ∨ sp_x b c g = c := by
  unfold sp_x
  split
  · exact Or.inl rfl
  · exact Or.inr rfl
section L32
variable {K : zKd} {F : zFd} {I : zId} {a N : Nat} {P : zP} {X : zXd}
theorem F_gains_ok (h : zCQ K F I a N P X) (hp : pInv P) (hi : sInv P (zcv (pnf P) (pnb P) I 1014)) (hX : xInv P X) {i j t h' : Nat} (hi' : i < xnt X) (hj : j < xnt X) (ht : t < pnb P) (hh : h' < pnb P) : F_X1_gains K F 1000 (nI (xft X i)) (nI t) (nI (xft X j)) (nI h') I = some (sp_gn X (zcv (pnf P) (pnb P) I 1014) i j t h') := by
  obtain ⟨h1, h2⟩ := F_tl_ok h
  have e0 : zcv (pnf P) (pnb P) (zlk I 1847 1014) 1847 = zcv (pnf P) (pnb P) I 1014 := zlk_cv hp.1 hp.2.1 (by decide)
  have h0 := h
  have hnf := hp.1
  have hnb := hp.2.1
  obtain ⟨k0, ⟨f0, f1, f2, f3, f4, f6, f9, f10⟩, ⟨kt, kw, ks⟩, ⟨hN, hT⟩, hL, hQ, hd⟩ := h
  obtain ⟨ea, haf⟩ := hi.at' hp ht
  have ea' : I 1019 t = nI (sp_f (zcv (pnf P) (pnb P) I 1014) t) := by rw [← ea]; exact (zcv4 ht).symm
  have e6 : I 1021 t = (zcv (pnf P) (pnb P) I 1014) 6 t := (zcv6 ht).symm
  have f1 := F_cfar_ok h0 hp (hX.2 i hi') haf
  have f2 := F_cfar_ok h0 hp (hX.2 j hj) haf
  have hht : (nI h' = nI t) ↔ h' = t := nI_eq (by omega) (by omega)
  obtain ⟨n6, nk, ⟨-, -, -, -, nf4, -, nf6, -⟩, -, -, -, -, nk5, -, nk7, -⟩ := hN
  have l3 := hL.2.2.1
  unfold sp_gn
  have key : ∀ d : Int32, (if 100000 ≤ xds X (xft X i) (sp_f (zcv (pnf P) (pnb P) I 1014) t) then some 0 else if xds X (xft X i) (sp_f (zcv (pnf P) (pnb P) I 1014) t) ≤ d then if ¬ d = xds X (xft X i) (sp_f (zcv (pnf P) (pnb P) I 1014) t) then some ((zcv (pnf P) (pnb P) I 1014) 6 t) else some ((zcv (pnf P) (pnb P) I 1014) 6 t / 2) else some 0) = some (if xds X (xft X i) (sp_f (zcv (pnf P) (pnb P) I 1014) t) < 100000 then (if xds X (xft X i) (sp_f (zcv (pnf P) (pnb P) I 1014) t) ≤ d then (if d = xds X (xft X i) (sp_f (zcv (pnf P) (pnb P) I 1014) t) then (zcv (pnf P) (pnb P) I 1014) 6 t / 2 else (zcv (pnf P) (pnb P) I 1014) 6 t) else 0) else 0) := by
    intro d
    by_cases c : xds X (xft X i) (sp_f (zcv (pnf P) (pnb P) I 1014) t) < 100000
    · rw [if_pos c, if_neg (by rw [iLe]; have := iL.mp c; omega)]
      by_cases c2 : xds X (xft X i) (sp_f (zcv (pnf P) (pnb P) I 1014) t) ≤ d
      · rw [if_pos c2, if_pos c2]
        by_cases c3 : d = xds X (xft X i) (sp_f (zcv (pnf P) (pnb P) I 1014) t)
        · rw [if_neg (fun h => h c3), if_pos c3]
        · rw [if_pos c3, if_neg c3]
      · rw [if_neg c2, if_neg c2]
    · rw [if_neg c, if_pos (by rw [iLe]; have := mt iL.mpr c; omega)]
  by_cases c : h' = t
  · rw [if_pos c, ← key]
    subst c
    simp only [F_X1_gains, ↓zka_eq k0, d1000, d1014, f0, f3, ↓reduceIte, zg_true, zb1_e, zlet_e, ↓zka_eq nk, nf4, nf6, ↓zka_eq nk5, ↓zka_eq nk7, zin_n (show h' < 6 by omega), nI_c (show h' < 2147483648 by omega), ea', e6, ↓zka_eq l3, f1, f2, not_true_eq_false]
  · rw [if_neg c, ← key]
    simp only [F_X1_gains, ↓zka_eq k0, d1000, d1014, f0, f3, ↓reduceIte, zg_true, zb1_e, zlet_e, ↓zka_eq nk, nf4, nf6, ↓zka_eq nk5, ↓zka_eq nk7, zin_n (show t < 6 by omega), nI_c (show t < 2147483648 by omega), ea', e6, ↓zka_eq l3, f1, hht, c, not_false_eq_true]
theorem F_game_ok (h : zCQ K F I a N P X) (hp : pInv P) (hi : sInv P (zcv (pnf P) (pnb P) I 1014)) (hX : xInv P X) (x y u v w : Int32) : F_X1_game K F 1000 x y u v w I = some (qC (q_game P X (zcv (pnf P) (pnb P) I 1014) x y u v w), I) := by
  have hnb := hp.2.1
  have hnt := hX.1
  have hnf := hp.1
  have k0 := h.1
  unfold q_game
  rcases zir_cases x (n := xnt X) (by omega) with ⟨i, hi', rfl⟩ | hx
  · rw [q_fa_ok hi' (by omega)]
    have h1 := F_fortAt_ok h hX hp hi'
    rcases zir_cases y (n := xnt X) (by omega) with ⟨j, hj, rfl⟩ | hy
    · rw [q_fa_ok hj (by omega)]
      have h2 := F_fortAt_ok h hX hp hj
      rcases zir_cases u (n := pnb P) (by omega) with ⟨b, hb, rfl⟩ | hu
      · rw [q_fa_ok hb (by omega)]
        have h3 := F_bandAt_ok h hp hb
        rcases zir_cases v (n := pnb P) (by omega) with ⟨c, hc, rfl⟩ | hv
        · rw [q_fa_ok hc (by omega)]
          have h4 := F_bandAt_ok h hp hc
          rcases zib_cases w 1 (by decide) with ⟨w, hw, rfl⟩ | ⟨hw, hw2⟩
          · rw [q_in_ok hw (by decide)]
            have ew : F_X1_within K F (nI w) 0 1 I = some 1 := by rw [F_within_ok]; exact congrArg some (zib_nI hw (by decide))
            have hw0 : (nI w = 0) ↔ w = 0 := nI_eq (b := 0) (by omega) (by omega)
            have hij : (nI i = nI j) ↔ i = j := nI_eq (by omega) (by omega)
            have hbc : (nI b = nI c) ↔ b = c := nI_eq (by omega) (by omega)
            by_cases e1 : i = j
            · rw [if_pos (Or.inl e1)]
              simp only [F_X1_game, ↓zka_eq k0, h1, h2, h3, h4, ew, F_there_1, F_right_0, ↓reduceIte, zg_true, zb1_e, zb2_e, zsum, zlet_e, hij, e1, qC, show ¬ (2 : Nat) = 1 by decide]
            · by_cases e2 : b = c
              · rw [if_pos (Or.inr e2)]
                simp only [F_X1_game, ↓zka_eq k0, h1, h2, h3, h4, ew, F_there_1, F_right_0, ↓reduceIte, zg_true, zb1_e, zb2_e, zsum, zlet_e, hij, hbc, e1, e2, qC, show ¬ (2 : Nat) = 1 by decide]
              · rw [if_neg (fun q => q.elim e1 e2)]
                have s := zloop_up (body := fun s : Int32 × Int32 × Int32 => F_X1_game_L63 K F 1000 (nI b) (nI c) (nI (xft X i)) (nI (xft X j)) I s.1 s.2.1 s.2.2) (fun g s => s = ((sp_gm X (zcv (pnf P) (pnb P) I 1014) i j b c g).1, (sp_gm X (zcv (pnf P) (pnb P) I 1014) i j b c g).2, nI g)) (fun t => t = sp_gm X (zcv (pnf P) (pnb P) I 1014) i j b c 4) 4 ?_ ?_ 0 (0, -1, 0) (Nat.zero_le _) rfl
                · obtain ⟨t, t1, rfl⟩ := s
                  simp only [F_X1_game, ↓zka_eq k0, h1, h2, h3, h4, ew, F_there_1, F_right_1, ↓reduceIte, zg_true, zb1_e, zb2_e, zsum, zlet_e, hij, hbc, e1, e2, t1, zn2, qC, hw0]
                  by_cases e : w = 0
                  · rw [if_neg (fun h => h e), if_pos e]
                  · rw [if_pos e, if_neg e]
                · rintro g _ hg rfl
                  dsimp only
                  refine Or.inl ⟨((sp_gm X (zcv (pnf P) (pnb P) I 1014) i j b c (g + 1)).1, (sp_gm X (zcv (pnf P) (pnb P) I 1014) i j b c (g + 1)).2, nI (g + 1)), ?_, rfl⟩
                  have ed : nI g / 2 = nI (g / 2) := nI_div (b := 2) (by omega) (by decide) (by decide)
                  have er : nI g - nI (g / 2) * 2 = nI (g % 2) := by
                    rw [show nI (g / 2) * 2 = nI (g / 2 * 2) from nI_mul (b := 2) (by omega) (by omega) (by decide), nI_sub (by omega) (by omega)]
                    congr 1; omega
                  have ecd : nI (g / 2) * 10 + nI (g % 2) = nI (g / 2 * 10 + g % 2) := by rw [show nI (g / 2) * 10 = nI (g / 2 * 10) from nI_mul (b := 10) (by omega) (by omega) (by decide), nI_add]
                  have x1 := sp_x_or b c (g / 2)
                  have x2 := sp_x_or b c (g % 2)
                  have s1 : nI (b + c) - nI (sp_x b c (g / 2)) = nI (b + c - sp_x b c (g / 2)) := nI_sub (by omega) (by omega)
                  have s2 : nI (b + c) - nI (sp_x b c (g % 2)) = nI (b + c - sp_x b c (g % 2)) := nI_sub (by omega) (by omega)
                  have g1 := F_gains_ok h hp hi hX hi' hj (t := b + c - sp_x b c (g / 2)) (h' := sp_x b c (g % 2)) (by omega) (by omega)
                  have g2 := F_gains_ok h hp hi hX hi' hj (t := sp_x b c (g / 2)) (h' := sp_x b c (g % 2)) (by omega) (by omega)
                  have g3 := F_gains_ok h hp hi hX hj hi' (t := b + c - sp_x b c (g % 2)) (h' := sp_x b c (g / 2)) (by omega) (by omega)
                  have g4 := F_gains_ok h hp hi hX hj hi' (t := sp_x b c (g % 2)) (h' := sp_x b c (g / 2)) (by omega) (by omega)
                  have hN4 : ¬ (4 : Int32) ≤ nI g := nI_ge hg (by decide)
                  by_cases c1 : sp_gn X (zcv (pnf P) (pnb P) I 1014) i j (sp_x b c (g / 2)) (sp_x b c (g % 2)) < sp_gn X (zcv (pnf P) (pnb P) I 1014) i j (b + c - sp_x b c (g / 2)) (sp_x b c (g % 2))
                  · rw [sp_gm_y (Or.inl c1)]
                    simp only [F_X1_game_L63, hN4, ↓reduceIte, ↓zlet_if, ed, er, nI_xx (show g / 2 < 1000 by omega), nI_xx (show g % 2 < 1000 by omega), ↓zka_eq k0, nI_add, s1, s2, g1, g2, zb1_e, c1, zlet_e, nI_1]
                  · by_cases c2 : sp_gn X (zcv (pnf P) (pnb P) I 1014) j i (b + c - sp_x b c (g % 2)) (sp_x b c (g / 2)) ≤ sp_gn X (zcv (pnf P) (pnb P) I 1014) j i (sp_x b c (g % 2)) (sp_x b c (g / 2))
                    · rw [sp_gm_n (fun q => q.elim c1 fun q => q c2)]
                      by_cases c3 : (sp_gm X (zcv (pnf P) (pnb P) I 1014) i j b c g).2 = -1
                      · simp only [F_X1_game_L63, hN4, ↓reduceIte, ↓zlet_if, ed, er, nI_xx (show g / 2 < 1000 by omega), nI_xx (show g % 2 < 1000 by omega), ↓zka_eq k0, nI_add, s1, s2, g1, g2, g3, g4, zb1_e, c1, c2, c3, zlet_e, nI_1, ecd, not_true_eq_false]
                      · simp only [F_X1_game_L63, hN4, ↓reduceIte, ↓zlet_if, ed, er, nI_xx (show g / 2 < 1000 by omega), nI_xx (show g % 2 < 1000 by omega), ↓zka_eq k0, nI_add, s1, s2, g1, g2, g3, g4, zb1_e, c1, c2, c3, zlet_e, nI_1, not_false_eq_true]
                    · rw [sp_gm_y (Or.inr c2)]
                      simp only [F_X1_game_L63, hN4, ↓reduceIte, ↓zlet_if, ed, er, nI_xx (show g / 2 < 1000 by omega), nI_xx (show g % 2 < 1000 by omega), ↓zka_eq k0, nI_add, s1, s2, g1, g2, g3, g4, zb1_e, c1, c2, zlet_e, nI_1]
                · rintro _ rfl
                  exact ⟨_, rfl, rfl⟩
          · rw [q_in_no hw2]
            have ew : F_X1_within K F w 0 1 I = some 0 := by rw [F_within_ok]; exact congrArg some hw
            simp only [F_X1_game, ↓zka_eq k0, h1, h2, h3, h4, ew, F_there_0, ↓reduceIte, zg_true, zb1_e, zb2_e, zb3_e, zsum, zlet_e, nI_1, zb2_e, qC]
        · rw [q_fa_no hv]
          simp only [F_X1_game, ↓zka_eq k0, h1, h2, h3, F_bandAt_no h hv, ↓reduceIte, zg_true, zb1_e, zb2_e, zb3_e, zsum, zlet_e, nI_1, zb2_e, qC]
      · rw [q_fa_no hu]
        simp only [F_X1_game, ↓zka_eq k0, h1, h2, F_bandAt_no h hu, ↓reduceIte, zg_true, zb1_e, zb2_e, zb3_e, zsum, zlet_e, nI_1, zb2_e, qC]
    · rw [q_fa_no hy]
      simp only [F_X1_game, ↓zka_eq k0, h1, F_fortAt_no h hy, ↓reduceIte, zg_true, zb1_e, zb2_e, zb3_e, zsum, zlet_e, nI_1, zb2_e, qC]
  · rw [q_fa_no hx]
    simp only [F_X1_game, ↓zka_eq k0, F_fortAt_no h hx, ↓reduceIte, zg_true, zb1_e, zb2_e, zb3_e, zsum, zlet_e, nI_1, zb2_e, qC]
theorem F7_gain_ok (hQ : zMQ I P X) (hp : pInv P) (hX : xInv P X) (hw : zwd (pnf P) (xrv X)) (hD : isD (pnf P) (xrv X) (xds X)) {S : zS} (hS : zmv2 (pnf P) (pnb P) I = S) (hi : sInv P S) {i j t h' : Nat} (hi' : i < xnt X) (hj : j < xnt X) (ht : t < pnb P) (hh : h' < pnb P) : ∃ J, F_X7_gain (nI i) (nI j) (nI t) (nI h') I = some (sp_gn X S i j t h', J) ∧ zmd I J := by
  have hnb := hp.2.1
  have hnt := hX.1
  obtain ⟨ea, haf⟩ := hi.at' hp ht
  obtain ⟨J, g1, g2⟩ := F7_farOf_ok hQ hp hw hD (hX.2 i hi') haf
  have g2' : zmd I J := g2
  have hQJ := hQ.mf g2'.mf
  have hSJ : zmv2 (pnf P) (pnb P) J = S := by rw [g2'.mv, hS]
  have ea' : I 1878 t = nI (sp_f S t) := by rw [← ea, ← hS]; exact (zmv24 ht).symm
  have eaJ : J 1878 t = nI (sp_f S t) := by rw [← ea, ← hSJ]; exact (zmv24 ht).symm
  have e6 : J 1880 t = S 6 t := by rw [← hSJ]; exact (zmv26 ht).symm
  have hht : (nI h' = nI t) ↔ h' = t := nI_eq (by omega) (by omega)
  have f1 := hQ.2.2.2.1 i hi'
  have f2 := hQJ.2.2.2.1 j hj
  unfold sp_gn
  by_cases c : xds X (xft X i) (sp_f S t) < 100000
  · rw [if_pos c]
    have key : ∀ (d : Int32) (L : zId) (e : L 1880 t = S 6 t), (if d ≤ xds X (xft X i) (sp_f S t) then if ¬ d = xds X (xft X i) (sp_f S t) then some (0, L) else some (L 1880 t / 2, L) else some (L 1880 t, L)) = some (if xds X (xft X i) (sp_f S t) ≤ d then (if d = xds X (xft X i) (sp_f S t) then S 6 t / 2 else S 6 t) else 0, L) := by
      intro d L e
      rw [e]
      by_cases c3 : d = xds X (xft X i) (sp_f S t)
      · rw [← c3, if_pos (iLe.mpr (Int.le_refl _)), if_neg (fun h => h rfl), if_pos (iLe.mpr (Int.le_refl _)), if_pos rfl]
      · have c3' : d.toInt ≠ (xds X (xft X i) (sp_f S t)).toInt := fun h => c3 (i_ext h)
        by_cases c2 : xds X (xft X i) (sp_f S t) ≤ d
        · have := iLe.mp c2
          rw [if_neg (mt iLe.mp (by omega)), if_pos c2, if_neg c3]
        · have := mt iLe.mpr c2
          rw [if_pos (iLe.mpr (by omega)), if_pos c3, if_neg c2]
    by_cases c4 : h' = t
    · subst c4
      rw [if_pos rfl]
      obtain ⟨J2, m1, m2⟩ := F7_farOf_ok hQJ hp hw hD (hX.2 j hj) haf
      have m2' : zmd J J2 := m2
      have e6' : J2 1880 h' = S 6 h' := by rw [m2' 1880 (by decide)]; exact e6
      refine ⟨J2, ?_, g2'.tr m2'⟩
      simp only [F_X7_gain, ↓reduceIte, zg_true, zlet_e, zb2_e, zin_n (show i < 6 by omega), nI_c (show i < 2147483648 by omega), zin_n (show h' < 6 by omega), nI_c (show h' < 2147483648 by omega), f1, ea', g1, c, not_true_eq_false, zin_n (show j < 6 by omega), nI_c (show j < 2147483648 by omega), f2, eaJ, m1]
      exact key _ _ e6'
    · rw [if_neg c4]
      refine ⟨J, ?_, g2'⟩
      simp only [F_X7_gain, ↓reduceIte, zg_true, zlet_e, zb2_e, zin_n (show i < 6 by omega), nI_c (show i < 2147483648 by omega), zin_n (show t < 6 by omega), nI_c (show t < 2147483648 by omega), f1, ea', g1, c, hht, c4, not_false_eq_true]
      exact key _ _ e6
  · rw [if_neg c]
    refine ⟨J, ?_, g2⟩
    simp only [F_X7_gain, ↓reduceIte, zg_true, zb1_e, zb2_e, zb3_e, zsum, zlet_e, nI_1, zb2_e, zin_n (show i < 6 by omega), nI_c (show i < 2147483648 by omega), zin_n (show t < 6 by omega), nI_c (show t < 2147483648 by omega), f1, ea', g1, c]
theorem F7_game_ok (hQ : zMQ I P X) (hp : pInv P) (hi : sInv P (zmv2 (pnf P) (pnb P) I)) (hX : xInv P X) (hw : zwd (pnf P) (xrv X)) (hD : isD (pnf P) (xrv X) (xds X)) (x y u v w : Int32) : ∃ J, F_X7_game x y u v w I = some (qV (q_game P X (zmv2 (pnf P) (pnb P) I) x y u v w), J) ∧ J 1860 1 = qE (q_game P X (zmv2 (pnf P) (pnb P) I) x y u v w) ∧ zmv2 (pnf P) (pnb P) J = zmv2 (pnf P) (pnb P) I ∧ zmf I J := by
  have hc := zmf_c1 (I := I) (v := 0)
  have hQ1 := hQ.mf hc
  have em : zmv2 (pnf P) (pnb P) (zu I 1860 1 0) = zmv2 (pnf P) (pnb P) I := zmv2_c1
  have hnf := hp.1
  have hnb := hp.2.1
  have hnt := hX.1
  have h10 : ¬ (1 : Int32) = 0 := by decide
  unfold q_game
  rcases zir_cases x (n := xnt X) (by omega) with ⟨i, hi', rfl⟩ | hx
  · rw [q_fa_ok hi' (by omega)]
    have hF1 := F7_isK_ok (by omega) hQ1.2.2.1 hi'
    rcases zir_cases y (n := xnt X) (by omega) with ⟨j, hj, rfl⟩ | hy
    · rw [q_fa_ok hj (by omega)]
      have hF2 := F7_isK_ok (by omega) hQ1.2.2.1 hj
      rcases zir_cases u (n := pnb P) (by omega) with ⟨b, hb, rfl⟩ | hu
      · rw [q_fa_ok hb (by omega)]
        have hF3 := F7_isB_ok (by omega) hQ1.1.2.1 hb
        rcases zir_cases v (n := pnb P) (by omega) with ⟨c, hc', rfl⟩ | hv
        · rw [q_fa_ok hc' (by omega)]
          have hF4 := F7_isB_ok (by omega) hQ1.1.2.1 hc'
          rcases zib_cases w 1 (by decide) with ⟨w, hw', rfl⟩ | ⟨hw', hw2⟩
          · rw [q_in_ok hw' (by decide)]
            have c0 : ¬ nI w < 0 := nI_pos (by omega)
            have c1 : nI w ≤ 1 := nI_le hw' (by decide)
            have hw0 : (nI w = 0) ↔ w = 0 := nI_eq (b := 0) (by omega) (by omega)
            have hij : (nI i = nI j) ↔ i = j := nI_eq (by omega) (by omega)
            have hbc : (nI b = nI c) ↔ b = c := nI_eq (by omega) (by omega)
            by_cases e1 : i = j
            · rw [if_pos (Or.inl e1)]
              (obtain ⟨J, g1, g2, g3, g4⟩ := F7_fail_ok (P := P) 2 2 rfl hc em; refine ⟨J, ?_, g2, g3, g4⟩; simp only [F_X7_game, zlet_e, zb1_e, g1, zb2_e, qV, hF1, hF2, hF3, hF4, if_neg h10, if_neg c0, if_pos c1, if_pos (hij.mpr e1)]; try first | rfl | exact zlt_if (n := 1) (by assumption))
            · by_cases e2 : b = c
              · rw [if_pos (Or.inr e2)]
                (obtain ⟨J, g1, g2, g3, g4⟩ := F7_fail_ok (P := P) 2 2 rfl hc em; refine ⟨J, ?_, g2, g3, g4⟩; simp only [F_X7_game, zlet_e, zb1_e, g1, zb2_e, qV, hF1, hF2, hF3, hF4, if_neg h10, if_neg c0, if_pos c1, hij, hbc, e1, e2, ↓reduceIte, not_true_eq_false]; try first | rfl | exact zlt_if (n := 1) (by assumption))
              · rw [if_neg (fun q => q.elim e1 e2)]
                have s := zloop_up (body := fun s : Int32 × Int32 × Int32 × zId => F_X7_game_L81 (nI i) (nI j) (nI b) (nI c) s.1 s.2.1 s.2.2.1 s.2.2.2) (fun g s => s.1 = (sp_gm X (zmv2 (pnf P) (pnb P) I) i j b c g).1 ∧ s.2.1 = (sp_gm X (zmv2 (pnf P) (pnb P) I) i j b c g).2 ∧ s.2.2.1 = nI g ∧ zmd (zu I 1860 1 0) s.2.2.2) (fun t => t.1 = (sp_gm X (zmv2 (pnf P) (pnb P) I) i j b c 4).1 ∧ t.2.1 = (sp_gm X (zmv2 (pnf P) (pnb P) I) i j b c 4).2 ∧ zmd (zu I 1860 1 0) t.2.2) 4 ?_ ?_ 0 (0, -1, 0, zu I 1860 1 0) (Nat.zero_le _) ⟨rfl, rfl, rfl, zmd.rf⟩
                · obtain ⟨⟨t1, t2, J⟩, s1, s2, s3, s4⟩ := s
                  dsimp only at s2 s3 s4
                  refine ⟨J, ?_, by rw [s4 _ (by decide), zu_same]; split <;> rfl, by rw [s4.mv, em], hc.tr s4.mf⟩
                  simp only [F_X7_game, hF1, hF2, hF3, hF4, ↓reduceIte, h10, c0, c1, zlet_e, zb1_e, hij, hbc, e1, e2, not_false_eq_true, s1, zn3, hw0, s2, s3]
                  by_cases e : w = 0
                  · rw [if_neg (fun h => h e), if_pos e]; rfl
                  · rw [if_pos e, if_neg e]; rfl
                · rintro g ⟨_, _, _, J⟩ hg ⟨rfl, rfl, rfl, e4⟩
                  dsimp only at e4
                  have ed : nI g / 2 = nI (g / 2) := nI_div (b := 2) (by omega) (by decide) (by decide)
                  have er : nI g - nI (g / 2) * 2 = nI (g % 2) := by
                    rw [show nI (g / 2) * 2 = nI (g / 2 * 2) from nI_mul (b := 2) (by omega) (by omega) (by decide), nI_sub (by omega) (by omega)]
                    congr 1; omega
                  have ecd : (10 : Int32) * nI (g / 2) + nI (g % 2) = nI (g / 2 * 10 + g % 2) := by
                    rw [show (10 : Int32) * nI (g / 2) = nI (10 * (g / 2)) from nI_mul (a := 10) (by omega) (by decide) (by omega), nI_add]
                    congr 1; omega
                  have x1 := sp_x_or b c (g / 2)
                  have x2 := sp_x_or b c (g % 2)
                  have s1 : nI (b + c) - nI (sp_x b c (g / 2)) = nI (b + c - sp_x b c (g / 2)) := nI_sub (by omega) (by omega)
                  have s2 : nI (b + c) - nI (sp_x b c (g % 2)) = nI (b + c - sp_x b c (g % 2)) := nI_sub (by omega) (by omega)
                  have gn := fun (L : zId) (hL : zmd (zu I 1860 1 0) L) {i j t h' : Nat} (hi' : i < xnt X) (hj : j < xnt X) (ht : t < pnb P) (hh : h' < pnb P) => F7_gain_ok (hQ1.mf hL.mf) hp hX hw hD (S := (zmv2 (pnf P) (pnb P) I)) (by rw [hL.mv, em]) hi hi' hj ht hh
                  obtain ⟨L1, g1, m1⟩ := gn J e4 hi' hj (t := b + c - sp_x b c (g / 2)) (h' := sp_x b c (g % 2)) (by omega) (by omega)
                  obtain ⟨L2, g2, m2⟩ := gn L1 (e4.tr m1) hi' hj (t := sp_x b c (g / 2)) (h' := sp_x b c (g % 2)) (by omega) (by omega)
                  obtain ⟨L3, g3, m3⟩ := gn L2 ((e4.tr m1).tr m2) hj hi' (t := b + c - sp_x b c (g % 2)) (h' := sp_x b c (g / 2)) (by omega) (by omega)
                  obtain ⟨L4, g4, m4⟩ := gn L3 (((e4.tr m1).tr m2).tr m3) hj hi' (t := sp_x b c (g % 2)) (h' := sp_x b c (g / 2)) (by omega) (by omega)
                  have hN4 : ¬ (4 : Int32) ≤ nI g := nI_ge hg (by decide)
                  by_cases c1 : sp_gn X (zmv2 (pnf P) (pnb P) I) i j (sp_x b c (g / 2)) (sp_x b c (g % 2)) < sp_gn X (zmv2 (pnf P) (pnb P) I) i j (b + c - sp_x b c (g / 2)) (sp_x b c (g % 2))
                  · refine Or.inl ⟨((sp_gm X (zmv2 (pnf P) (pnb P) I) i j b c (g + 1)).1, (sp_gm X (zmv2 (pnf P) (pnb P) I) i j b c (g + 1)).2, nI (g + 1), L2), ?_, rfl, rfl, rfl, (e4.tr m1).tr m2⟩
                    rw [sp_gm_y (Or.inl c1)]
                    dsimp only
                    simp only [F_X7_game_L81, hN4, ↓reduceIte, ↓zlet_if, ed, er, nI_xx (show g / 2 < 1000 by omega), nI_xx (show g % 2 < 1000 by omega), nI_add, s1, s2, g1, g2, zb2_e, c1, zlet_e, nI_1]
                  · by_cases c2 : sp_gn X (zmv2 (pnf P) (pnb P) I) j i (b + c - sp_x b c (g % 2)) (sp_x b c (g / 2)) ≤ sp_gn X (zmv2 (pnf P) (pnb P) I) j i (sp_x b c (g % 2)) (sp_x b c (g / 2))
                    · refine Or.inl ⟨((sp_gm X (zmv2 (pnf P) (pnb P) I) i j b c (g + 1)).1, (sp_gm X (zmv2 (pnf P) (pnb P) I) i j b c (g + 1)).2, nI (g + 1), L4), ?_, rfl, rfl, rfl, ((e4.tr m1).tr m2).tr (m3.tr m4)⟩
                      rw [sp_gm_n (fun q => q.elim c1 fun q => q c2)]
                      dsimp only
                      by_cases c3 : (sp_gm X (zmv2 (pnf P) (pnb P) I) i j b c g).2 = -1
                      · simp only [F_X7_game_L81, hN4, ↓reduceIte, ↓zlet_if, ed, er, nI_xx (show g / 2 < 1000 by omega), nI_xx (show g % 2 < 1000 by omega), nI_add, s1, s2, g1, g2, g3, g4, zb2_e, c1, c2, c3, zlet_e, nI_1, ecd, not_true_eq_false]
                      · simp only [F_X7_game_L81, hN4, ↓reduceIte, ↓zlet_if, ed, er, nI_xx (show g / 2 < 1000 by omega), nI_xx (show g % 2 < 1000 by omega), nI_add, s1, s2, g1, g2, g3, g4, zb2_e, c1, c2, c3, zlet_e, nI_1, not_false_eq_true]
                    · refine Or.inl ⟨((sp_gm X (zmv2 (pnf P) (pnb P) I) i j b c (g + 1)).1, (sp_gm X (zmv2 (pnf P) (pnb P) I) i j b c (g + 1)).2, nI (g + 1), L4), ?_, rfl, rfl, rfl, ((e4.tr m1).tr m2).tr (m3.tr m4)⟩
                      rw [sp_gm_y (Or.inr c2)]
                      dsimp only
                      simp only [F_X7_game_L81, hN4, ↓reduceIte, ↓zlet_if, ed, er, nI_xx (show g / 2 < 1000 by omega), nI_xx (show g % 2 < 1000 by omega), nI_add, s1, s2, g1, g2, g3, g4, zb2_e, c1, c2, zlet_e, nI_1]
                · rintro ⟨_, _, _, J⟩ ⟨rfl, rfl, rfl, e4⟩
                  exact ⟨_, rfl, rfl, rfl, e4⟩
          · rw [q_in_no hw2]
            (obtain ⟨J, g1, g2, g3, g4⟩ := F7_fail_ok (P := P) 1 1 rfl hc em; refine ⟨J, ?_, g2, g3, g4⟩; simp only [F_X7_game, zlet_e, zb1_e, g1, zb2_e, qV, hF1, hF2, hF3, hF4, if_neg h10]; try first | rfl | exact zlt_if (n := 1) (by assumption))
        · rw [q_fa_no hv]
          have hF4 := F7_isB_no (by omega) hQ1.1.2.1 hv
          (obtain ⟨J, g1, g2, g3, g4⟩ := F7_fail_ok (P := P) 1 1 rfl hc em; refine ⟨J, ?_, g2, g3, g4⟩; simp only [F_X7_game, zlet_e, zb1_e, g1, zb2_e, qV, hF1, hF2, hF3, hF4, if_neg h10, if_true]; try first | rfl | exact zlt_if (n := 1) (by assumption))
      · rw [q_fa_no hu]
        have hF3 := F7_isB_no (by omega) hQ1.1.2.1 hu
        (obtain ⟨J, g1, g2, g3, g4⟩ := F7_fail_ok (P := P) 1 1 rfl hc em; refine ⟨J, ?_, g2, g3, g4⟩; simp only [F_X7_game, zlet_e, zb1_e, g1, zb2_e, qV, hF1, hF2, hF3, if_neg h10, if_true]; try first | rfl | exact zlt_if (n := 1) (by assumption))
    · rw [q_fa_no hy]
      have hF2 := F7_isK_no (by omega) hQ1.2.2.1 hy
      (obtain ⟨J, g1, g2, g3, g4⟩ := F7_fail_ok (P := P) 1 1 rfl hc em; refine ⟨J, ?_, g2, g3, g4⟩; simp only [F_X7_game, zlet_e, zb1_e, g1, zb2_e, qV, hF1, hF2, if_neg h10, if_true]; try first | rfl | exact zlt_if (n := 1) (by assumption))
  · rw [q_fa_no hx]
    have hF1 := F7_isK_no (by omega) hQ1.2.2.1 hx
    (obtain ⟨J, g1, g2, g3, g4⟩ := F7_fail_ok (P := P) 1 1 rfl hc em; refine ⟨J, ?_, g2, g3, g4⟩; simp only [F_X7_game, zlet_e, zb1_e, g1, zb2_e, qV, hF1, if_true]; try first | rfl | exact zlt_if (n := 1) (by assumption))
end L32
