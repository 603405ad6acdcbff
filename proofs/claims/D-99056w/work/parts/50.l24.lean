/-! L24: hidden -/
theorem nI_div {a b : Nat} (ha : a < 2147483648) (hb : b < 2147483648) (h0 : 0 < b) : nI a / nI b = nI (a / b) := by
  apply i_ext
  have h1 : a / b ≤ a := Nat.div_le_self a b
  rw [i_div (by rw [nI_toInt (by omega)]; omega) (by rw [nI_toInt (by omega)]; omega), nI_toInt (by omega), nI_toInt (by omega), nI_toInt (by omega)]
  exact (Int.natCast_ediv a b).symm
theorem nI_mul {a b : Nat} (h : a * b < 2147483648) (ha : a < 2147483648) (hb : b < 2147483648) : nI a * nI b = nI (a * b) := by
  apply i_ext
  have e : ((a * b : Nat) : Int) = (a : Int) * (b : Int) := Int.natCast_mul a b
  rw [i_mul (by rw [nI_toInt (by omega), nI_toInt (by omega)]; omega) (by rw [nI_toInt (by omega), nI_toInt (by omega)]; omega), nI_toInt (by omega), nI_toInt (by omega), nI_toInt (by omega)]
  exact e.symm
theorem nI_sub {a b : Nat} (h : b ≤ a) (ha : a < 2147483648) : nI a - nI b = nI (a - b) := by
  apply i_ext
  rw [i_sub (by rw [nI_toInt (by omega), nI_toInt (by omega)]; omega) (by rw [nI_toInt (by omega), nI_toInt (by omega)]; omega), nI_toInt (by omega), nI_toInt (by omega), nI_toInt (by omega)]
  omega
theorem zu_zu {α : Type} {f : Nat → Nat → α} {o k : Nat} {x y : α} : zu (zu f o k x) o k y = zu f o k y := by
  funext a b
  unfold zu
  split <;> rfl
def zgl (p : Nat → Bool) : Nat → List Nat
  | 0 => []
  | n + 1 => if p n = true then zgl p n ++ [n] else zgl p n
theorem zgl_len (p : Nat → Bool) : ∀ n, (zgl p n).length ≤ n
  | 0 => Nat.le_refl _
  | n + 1 => by
    have := zgl_len p n
    rw [zgl]
    split
    · rw [List.length_append]; exact Nat.succ_le_succ this
    · omega
theorem zgl_lt (p : Nat → Bool) : ∀ n, ∀ g ∈ zgl p n, g < n ∧ p g = true
  | 0, g, h => by cases h
  | n + 1, g, h => by
    rw [zgl] at h
    split at h
    · rename_i hp
      rcases List.mem_append.mp h with h | h
      · obtain ⟨h1, h2⟩ := zgl_lt p n g h; exact ⟨by omega, h2⟩
      · rw [List.mem_singleton.mp h]; exact ⟨by omega, hp⟩
    · obtain ⟨h1, h2⟩ := zgl_lt p n g h; exact ⟨by omega, h2⟩
def zcd (g : Nat) : Int32 := nI (g / 30 * 100 + g % 30 + 1)
def zhd (l : List Nat) : Int32 := match l with
  | [] => -1
  | g :: _ => zcd g
def sp_gd (P : zP) (Sp : zSpd) (S : zS) (g : Nat) : Bool := !(decide (S 3 (g / 30) = nI (g % 30 + 1))) && sp_sp P Sp (zu S 3 (g / 30) (nI (g % 30 + 1)))
def sp_gl (P : zP) (Sp : zSpd) (S : zS) (n : Nat) : List Nat := zgl (sp_gd P Sp S) n
def q_hidden (P : zP) (Sp : zSpd) (S : zS) (w : Int32) : Int32 ⊕ Nat := q_in w 2 1 fun w => .inl (if w = 2 then q_b (sp_sp P Sp S) else if w = 0 then nI (sp_gl P Sp S (pnb P * 30)).length else zhd (sp_gl P Sp S (pnb P * 30)))
section L24
variable {K : zKd} {F : zFd} {I : zId} {a N : Nat} {P : zP} {X : zXd} {Sp : zSpd}
theorem F_isGuess_ok (h : zCQ K F I a N P X) (hp : pInv P) (hi : sInv P (zcv (pnf P) (pnb P) I 1014)) {g : Nat} (hg : g < pnb P * 30) : ((zcv (pnf P) (pnb P) I 1014) 3 (g / 30) = nI (g % 30 + 1) ∧ F_X1_isGuess K F 1000 (nI g) I = some (0, I)) ∨ (¬ (zcv (pnf P) (pnb P) I 1014) 3 (g / 30) = nI (g % 30 + 1) ∧ ∃ J, F_X1_isGuess K F 1000 (nI g) I = some (1, J) ∧ zcv (pnf P) (pnb P) J 1847 = zu (zcv (pnf P) (pnb P) I 1014) 3 (g / 30) (nI (g % 30 + 1)) ∧ zcf a I J) := by
  obtain ⟨h1, h2⟩ := F_tl_ok h
  have e0 : zcv (pnf P) (pnb P) (zlk I 1847 1014) 1847 = zcv (pnf P) (pnb P) I 1014 := zlk_cv hp.1 hp.2.1 (by decide)
  have h0 := h
  have hnf := hp.1
  have hnb := hp.2.1
  obtain ⟨k0, ⟨f0, f1, f2, f3, f4, f6, f9, f10⟩, ⟨kt, kw, ks⟩, ⟨hN, hT⟩, hL, hQ, hd⟩ := h
  have hb : g / 30 < pnb P := by omega
  have e3 : (zcv (pnf P) (pnb P) I 1014) 3 (g / 30) = I 1018 (g / 30) := zcv3 hb
  have ed : nI g / 30 = nI (g / 30) := nI_div (b := 30) (by omega) (by decide) (by decide)
  have em : (nI g - nI (g / 30) * 30) + 1 = nI (g % 30 + 1) := by
    rw [show nI (g / 30) * 30 = nI (g / 30 * 30) from nI_mul (b := 30) (by omega) (by omega) (by decide), nI_sub (by omega) (by omega), nI_1]
    congr 1
    omega
  obtain ⟨t6, tk, ⟨-, -, -, tf3, -⟩, -, -, -, tk4, -⟩ := hT
  obtain ⟨n6, nk, ⟨-, -, -, nf3, -⟩, -, -, -, nk4, -⟩ := hN
  rw [e3]
  by_cases c : I 1018 (g / 30) = nI (g % 30 + 1)
  · refine Or.inl ⟨c, ?_⟩
    simp only [F_X1_isGuess, ↓reduceIte, zg_true, zb1_e, zb2_e, zb3_e, zsum, zlet_e, nI_1, ed, em, ↓zka_eq k0, d1000, d1014, f3, ↓zka_eq nk, nf3, ↓zka_eq nk4, zin_n (show g / 30 < 6 by omega), nI_c (show g / 30 < 2147483648 by omega), c, not_true_eq_false, if_false]
  · refine Or.inr ⟨c, zu (zlk I 1847 1014) 1851 (g / 30) (nI (g % 30 + 1)), ?_, ?_, h2.zu (by simp [zcsc])⟩
    · simp only [F_X1_isGuess, zg_true, zb1_e, zlet_e, ed, em, ↓zka_eq k0, d1000, d1014, d1847, f3, f4, ↓zka_eq nk, ↓zka_eq tk, nf3, tf3, ↓zka_eq nk4, ↓zka_eq tk4, zin_n (show g / 30 < 6 by omega), nI_c (show g / 30 < 2147483648 by omega), if_pos c, h1, decide_eq_true (show 600 ≤ 1847 + 4 by decide)]
    · rw [← e0]; exact zcvu3 (o := 1847) hb
theorem zhd_app (l : List Nat) (n : Nat) : zhd (l ++ [n]) = if l = [] then zcd n else zhd l := by
  cases l with
  | nil => rfl
  | cons x l => rfl
theorem zcd_m1 {g : Nat} (h : g < 180) : ¬ zcd g = -1 := nI_m1 (by omega)
theorem zhd_m1 {l : List Nat} (h : ∀ g ∈ l, g < 180) : zhd l = -1 ↔ l = [] := by
  cases l with
  | nil => exact ⟨fun _ => rfl, fun _ => rfl⟩
  | cons x l => exact ⟨fun e => absurd e (zcd_m1 (h x List.mem_cons_self)), fun e => by cases e⟩
theorem F_hidden_ok (h : zCQ K F I a N P X) (hp : pInv P) (hi : sInv P (zcv (pnf P) (pnb P) I 1014)) (hs : zCSp K F I Sp) (hsi : spInv P Sp) (w : Int32) : ∃ J, F_X1_hidden K F 1000 w I = some (qC (q_hidden P Sp (zcv (pnf P) (pnb P) I 1014) w), J) ∧ zcf a I J := by
  obtain ⟨h1, h2⟩ := F_tl_ok h
  have e0 : zcv (pnf P) (pnb P) (zlk I 1847 1014) 1847 = zcv (pnf P) (pnb P) I 1014 := zlk_cv hp.1 hp.2.1 (by decide)
  have h0 := h
  have hnf := hp.1
  have hnb := hp.2.1
  obtain ⟨k0, ⟨f0, f1, f2, f3, f4, f6, f9, f10⟩, ⟨kt, kw, ks⟩, ⟨hN, hT⟩, hL, hQ, hd⟩ := h
  unfold q_hidden
  rcases zib_cases w 2 (by decide) with ⟨w, hw, rfl⟩ | ⟨hw, hw2⟩
  · rw [q_in_ok hw (by decide)]
    have ew : F_X1_within K F (nI w) 0 2 I = some 1 := by rw [F_within_ok]; exact congrArg some (zib_nI hw (by decide))
    have hw2 : (nI w = 2) ↔ w = 2 := nI_eq (b := 2) (by omega) (by omega)
    have hw0 : (nI w = 0) ↔ w = 0 := nI_eq (b := 0) (by omega) (by omega)
    by_cases c2 : w = 2
    · obtain ⟨J, g1, g2⟩ := F_isSpied_ok (h0.cf h2) hp (by rw [e0]; exact hi) (hs.cf (by omega) h2) hsi
      rw [e0] at g1
      refine ⟨J, ?_, h2.tr g2⟩
      rw [if_pos c2]
      subst c2
      simp only [F_X1_hidden, ew, ↓reduceIte, zg_true, zb1_e, zb2_e, zb3_e, zsum, zlet_e, nI_1, F_there_1, hw2, not_true_eq_false, if_false, ↓zka_eq k0, d1000, f3, f4, ↓zka_eq hT.2.1, h1, g1, zb2_e, qC]
      cases sp_sp P Sp (zcv (pnf P) (pnb P) I 1014) <;> rfl
    · rw [if_neg c2]
      have s := zloop_up (body := fun s : Int32 × Int32 × Int32 × zId => F_X1_hidden_L45 K F 1000 s.1 s.2.1 s.2.2.1 s.2.2.2) (fun g s => s.1 = nI (sp_gl P Sp (zcv (pnf P) (pnb P) I 1014) g).length ∧ s.2.1 = zhd (sp_gl P Sp (zcv (pnf P) (pnb P) I 1014) g) ∧ s.2.2.1 = nI g ∧ zcf a I s.2.2.2) (fun t => t.1 = nI (sp_gl P Sp (zcv (pnf P) (pnb P) I 1014) (pnb P * 30)).length ∧ t.2.1 = zhd (sp_gl P Sp (zcv (pnf P) (pnb P) I 1014) (pnb P * 30)) ∧ zcf a I t.2.2) (pnb P * 30) ?_ ?_ 0 (0, -1, 0, I) (Nat.zero_le _) ⟨rfl, rfl, rfl, zcf.rf⟩
      · obtain ⟨⟨t1, t2, J⟩, s1, s2, s3, s4⟩ := s
        dsimp only at s2 s3 s4
        refine ⟨J, ?_, s4⟩
        simp only [F_X1_hidden, ew, ↓reduceIte, zg_true, zb1_e, zb2_e, zb3_e, zsum, zlet_e, nI_1, F_there_1, hw2, c2, not_false_eq_true, if_true, s1, zn3, hw0, qC, ← s2, ← s3]
        by_cases c : w = 0
        · rw [if_neg (fun h => h c), if_pos c]
        · rw [if_pos c, if_neg c]
      · rintro g ⟨_, _, _, J⟩ hg ⟨rfl, rfl, rfl, e4⟩
        dsimp only at e4
        have hJ := h0.cf e4
        have en := e4.now h0
        have hgs : F_X1_guesses K F 1000 J = some (nI (pnb P * 30)) := by
          simp only [F_X1_guesses, ↓zka_eq k0, F_bands_ok hJ, zb1_e]
          exact congrArg some (nI_mul (b := 30) (by omega) (by omega) (by decide))
        have hlt : ∀ x ∈ sp_gl P Sp (zcv (pnf P) (pnb P) I 1014) g, x < 180 := fun x hx => by
          have h1 : x < g := (zgl_lt (sp_gd P Sp (zcv (pnf P) (pnb P) I 1014)) g x hx).1
          omega
        rcases F_isGuess_ok hJ hp (by rw [en]; exact hi) hg with ⟨c, q⟩ | ⟨c, J1, q1, q2, q3⟩
        · rw [en] at c
          have hgd : sp_gd P Sp (zcv (pnf P) (pnb P) I 1014) g = false := by simp [sp_gd, c]
          refine Or.inl ⟨(nI (sp_gl P Sp (zcv (pnf P) (pnb P) I 1014) g).length, zhd (sp_gl P Sp (zcv (pnf P) (pnb P) I 1014) g), nI (g + 1), J), ?_, ?_, ?_, rfl, e4⟩
          · dsimp only
            simp only [F_X1_hidden_L45, ↓zka_eq k0, hgs, ↓reduceIte, zg_true, zb1_e, zb2_e, zb3_e, zsum, zlet_e, nI_1, nI_ge hg (show pnb P * 30 < 2 ^ 31 by omega), q, if_true]
          · unfold sp_gl; rw [zgl, hgd]; rfl
          · unfold sp_gl; rw [zgl, hgd]; rfl
        · rw [en] at c q2
          have hbb : g / 30 < pnb P := by omega
          have hsv : sInv P (zu (zcv (pnf P) (pnb P) I 1014) 3 (g / 30) (nI (g % 30 + 1))) := sInv_bow hi (rg_nI (n := 30) (by omega) (by decide))
          obtain ⟨J2, r1, r2⟩ := F_isSpied_ok (hJ.cf q3) hp (by rw [q2]; exact hsv) (hs.cf (by omega) (e4.tr q3)) hsi
          rw [q2] at r1
          have hgd : sp_gd P Sp (zcv (pnf P) (pnb P) I 1014) g = sp_sp P Sp (zu (zcv (pnf P) (pnb P) I 1014) 3 (g / 30) (nI (g % 30 + 1))) := by simp [sp_gd, c]
          have h10 : ¬ (1 : Int32) = 0 := by decide
          rw [← hgd] at r1
          cases hv : sp_gd P Sp (zcv (pnf P) (pnb P) I 1014) g with
          | false =>
            rw [hv] at r1
            refine Or.inl ⟨(nI (sp_gl P Sp (zcv (pnf P) (pnb P) I 1014) g).length, zhd (sp_gl P Sp (zcv (pnf P) (pnb P) I 1014) g), nI (g + 1), J2), ?_, ?_, ?_, rfl, (e4.tr q3).tr r2⟩
            · dsimp only
              simp only [F_X1_hidden_L45, ↓zka_eq k0, hgs, ↓reduceIte, zg_true, zb1_e, zb2_e, zb3_e, zsum, zlet_e, nI_1, nI_ge hg (show pnb P * 30 < 2 ^ 31 by omega), q1, if_neg h10, r1, q_b, Bool.false_eq_true, if_false, not_true_eq_false]
            · unfold sp_gl; rw [zgl, hv]; rfl
            · unfold sp_gl; rw [zgl, hv]; rfl
          | true =>
            rw [hv] at r1
            have ec : ((nI g / 30 * 100) + (nI g - nI g / 30 * 30)) + 1 = zcd g := by
              rw [show nI g / 30 = nI (g / 30) from nI_div (b := 30) (by omega) (by decide) (by decide), show nI (g / 30) * 30 = nI (g / 30 * 30) from nI_mul (b := 30) (by omega) (by omega) (by decide), show nI (g / 30) * 100 = nI (g / 30 * 100) from nI_mul (b := 100) (by omega) (by omega) (by decide), nI_sub (by omega) (by omega), nI_add, nI_1]
              unfold zcd
              congr 1
              omega
            refine Or.inl ⟨(nI ((sp_gl P Sp (zcv (pnf P) (pnb P) I 1014) g).length + 1), if sp_gl P Sp (zcv (pnf P) (pnb P) I 1014) g = [] then zcd g else zhd (sp_gl P Sp (zcv (pnf P) (pnb P) I 1014) g), nI (g + 1), J2), ?_, ?_, ?_, rfl, (e4.tr q3).tr r2⟩
            · dsimp only
              simp only [F_X1_hidden_L45, ↓zka_eq k0, hgs, ↓reduceIte, zg_true, zb1_e, zb2_e, zb3_e, zsum, zlet_e, nI_1, nI_ge hg (show pnb P * 30 < 2 ^ 31 by omega), q1, if_neg h10, r1, q_b, if_true, if_pos h10, zhd_m1 hlt, ec]
              by_cases ce : sp_gl P Sp (zcv (pnf P) (pnb P) I 1014) g = []
              · rw [if_neg (fun h => h ce), if_pos ce]
              · rw [if_pos ce, if_neg ce]
            · unfold sp_gl; rw [zgl, hv, if_pos rfl, List.length_append]; rfl
            · show _ = zhd (zgl _ (g + 1)); rw [zgl, hv, if_pos rfl, zhd_app]; rfl
      · rintro ⟨t1, t2, _, J⟩ ⟨e1, e2, rfl, e4⟩
        have hJ := h0.cf e4
        refine ⟨(t1, t2, J), ?_, e1, e2, e4⟩
        have hgs : F_X1_guesses K F 1000 J = some (nI (pnb P * 30)) := by
          simp only [F_X1_guesses, ↓zka_eq k0, F_bands_ok hJ, zb1_e]
          exact congrArg some (nI_mul (b := 30) (by omega) (by omega) (by decide))
        dsimp only
        simp only [F_X1_hidden_L45, ↓zka_eq k0, hgs, zb1_e, ↓reduceIte, nI_le (Nat.le_refl (pnb P * 30)) (show pnb P * 30 < 2 ^ 31 by omega)]
  · rw [q_in_no hw2]
    refine ⟨I, ?_, zcf.rf⟩
    have ew : F_X1_within K F w 0 2 I = some 0 := by rw [F_within_ok]; exact congrArg some hw
    simp only [F_X1_hidden, ↓reduceIte, zg_true, zb1_e, zb2_e, zb3_e, zsum, zlet_e, nI_1, ew, F_there_0, qC]
    try rfl
theorem zmv2_rb {J : zId} {nf nb b : Nat} (hb : b < nb) {v : Int32} {S : zS} {w : Int32} (h : zmv2 nf nb J = zu S 3 b w) : zmv2 nf nb (zu J 1868 b v) = zu S 3 b v := by rw [zmvu3 hb, h, zu_zu]
/-- the fits that were told: the model -/
def zft (J : zId) (l : List Nat) : Prop := J 1860 52 = nI l.length ∧ ∀ i (h : i < l.length), J 1894 i = zcd l[i]
theorem zft_app {J : zId} {l : List Nat} {g : Nat} (h : zft J l) (hl : l.length < 180) : zft (zu (zu J 1894 l.length (zcd g)) 1860 52 (nI (l.length + 1))) (l ++ [g]) := by
  refine ⟨by rw [zu_same, List.length_append]; rfl, fun i hi => ?_⟩
  rw [zu_row (by decide)]
  rw [List.length_append, List.length_singleton] at hi
  by_cases e : i = l.length
  · subst e
    rw [zu_same, List.getElem_append_right (Nat.le_refl _)]
    simp
  · rw [zu_off fun q => e q.2, List.getElem_append_left (by omega)]
    exact h.2 i (by omega)
theorem F7_tell_ok (hQ : zMQ I P X) (hp : pInv P) (hi : sInv P (zmv2 (pnf P) (pnb P) I)) (hs : zMSp I Sp) (hsi : spInv P Sp) : ∃ J, F_X7_tellFits I = some J ∧ zft J (sp_gl P Sp (zmv2 (pnf P) (pnb P) I) (pnb P * 30)) ∧ zmv2 (pnf P) (pnb P) J = (zmv2 (pnf P) (pnb P) I) ∧ zmf I J ∧ J 1860 1 = I 1860 1 ∧ (∀ j, j < pnb P → J 1868 j = I 1868 j) := by
  have hnb := hp.2.1
  have em : zmv2 (pnf P) (pnb P) (zu I 1860 52 0) = (zmv2 (pnf P) (pnb P) I) := zmvo (by simp [zmok])
  have hlen : ∀ g, (sp_gl P Sp (zmv2 (pnf P) (pnb P) I) g).length ≤ g := fun g => zgl_len _ g
  generalize hS : (zmv2 (pnf P) (pnb P) I) = S at *
  let OK : Nat → zId → Prop := fun g J => zft J (sp_gl P Sp S g) ∧ zmf I J ∧ J 1860 1 = I 1860 1
  have s := zloop_up (body := fun s : Int32 × zId => F_X7_tellFits_L7 s.1 s.2) (fun b s => s.1 = nI b ∧ OK (b * 30) s.2 ∧ zmv2 (pnf P) (pnb P) s.2 = S) (fun t => OK (pnb P * 30) t ∧ zmv2 (pnf P) (pnb P) t = S) (pnb P) ?_ ?_ 0 (0, zu I 1860 52 0) (Nat.zero_le _) ⟨rfl, ⟨⟨(show zu I 1860 52 0 1860 52 = nI (zgl (sp_gd P Sp S) (0 * 30)).length by rw [Nat.zero_mul]; exact zu_same), fun i h => absurd h (by unfold sp_gl; rw [Nat.zero_mul]; exact Nat.not_lt_zero i)⟩, zmf.rf.zu (by simp [zmsc]), (show zu I 1860 52 0 1860 1 = I 1860 1 from zu_off (by omega))⟩, em⟩
  · obtain ⟨J, s1, ⟨s2, s3, s4⟩, s5⟩ := s
    refine ⟨J, by simp only [F_X7_tellFits, zlet_e, s1, zb1_e], s2, s5, s3, s4, fun j hj => ?_⟩
    have e1 : zmv2 (pnf P) (pnb P) J 3 j = S 3 j := by rw [s5]
    rw [zmv23 hj, ← hS, zmv23 hj] at e1
    exact e1
  · rintro b ⟨_, J⟩ hb ⟨rfl, ⟨o1, o2, o3⟩, e2⟩
    dsimp only at o1 o2 o3 e2
    have hw : J 1868 b = S 3 b := by rw [← e2]; exact (zmv23 hb).symm
    have s := zloop_up (body := fun s : Int32 × zId => F_X7_tellFits_L26 (nI b) (S 3 b) s.1 s.2) (fun v s => s.1 = nI (v + 1) ∧ OK (b * 30 + v) s.2 ∧ ∃ w, zmv2 (pnf P) (pnb P) s.2 = zu S 3 b w) (fun t => OK (b * 30 + 30) t ∧ ∃ w, zmv2 (pnf P) (pnb P) t = zu S 3 b w) 30 ?_ ?_ 0 (1, J) (Nat.zero_le _) ⟨rfl, ⟨o1, o2, o3⟩, S 3 b, by rw [zu_self]; exact e2⟩
    · obtain ⟨J1, s1, ⟨s2, s3, s4⟩, w, s5⟩ := s
      refine Or.inl ⟨(nI (b + 1), zu J1 1868 b (S 3 b)), ?_, rfl, ⟨?_, s3.zu (by simp [zmsc]), by dsimp only; rw [zu_row (by decide)]; exact s4⟩, by rw [zmv2_rb hb s5, zu_self]⟩
      · dsimp only
        simp only [F_X7_tellFits_L7, (hQ.mf o2).1.2.1, nI_ge hb (show pnb P < 2 ^ 31 by omega), zin_n (show b < 12 by omega), nI_c (show b < 2147483648 by omega), ↓reduceIte, zg_true, zb1_e, zb2_e, zb3_e, zsum, zlet_e, nI_1, hw, s1]
      · rw [show (b + 1) * 30 = b * 30 + 30 by omega]
        exact ⟨by dsimp only; rw [zu_row (by decide)]; exact s2.1, fun i h => by dsimp only; rw [zu_row (by decide)]; exact s2.2 i h⟩
    · rintro v ⟨_, J0⟩ hv ⟨rfl, ⟨p1, p2, p3⟩, w, e3⟩
      dsimp only at p1 p2 p3 e3
      have eg1 : (b * 30 + v) / 30 = b := by omega
      have eg2 : (b * 30 + v) % 30 = v := by omega
      have hmv := zmv2_rb (v := nI (v + 1)) hb e3
      have hN : ¬ (30 : Int32) < nI (v + 1) := nI_nlt (a := 30) (by omega) (by decide)
      have hgd0 : sp_gd P Sp S (b * 30 + v) = (!(decide (S 3 b = nI (v + 1))) && sp_sp P Sp (zu S 3 b (nI (v + 1)))) := by unfold sp_gd; rw [eg1, eg2]
      have q2 : zmf I (zu J0 1868 b (nI (v + 1))) := p2.zu (by simp [zmsc])
      have pz : zft (zu J0 1868 b (nI (v + 1))) (sp_gl P Sp S (b * 30 + v)) := ⟨by rw [zu_row (by decide)]; exact p1.1, fun i h => by rw [zu_row (by decide)]; exact p1.2 i h⟩
      by_cases c : nI (v + 1) = S 3 b
      · have hgd : sp_gd P Sp S (b * 30 + v) = false := by rw [hgd0, decide_eq_true c.symm]; rfl
        refine Or.inl ⟨(nI (v + 1 + 1), zu J0 1868 b (nI (v + 1))), ?_, rfl, ⟨?_, q2, by dsimp only; rw [zu_row (by decide)]; exact p3⟩, _, hmv⟩
        · dsimp only
          simp only [F_X7_tellFits_L26, if_neg hN, zin_n (show b < 12 by omega), nI_c (show b < 2147483648 by omega), ↓reduceIte, zg_true, zb1_e, zb2_e, zb3_e, zsum, zlet_e, nI_1, if_pos c]
        · unfold sp_gl; rw [← Nat.add_assoc, zgl, hgd]; exact pz
      · have hgd : sp_gd P Sp S (b * 30 + v) = sp_sp P Sp (zu S 3 b (nI (v + 1))) := by rw [hgd0, decide_eq_false fun e => c e.symm]; rfl
        have hsv : sInv P (zu S 3 b (nI (v + 1))) := sInv_bow hi (rg_nI (n := 30) (by omega) (by decide))
        obtain ⟨J2, r1, r2, r3, r4, r5⟩ := F7_isAs_ok (hQ.mf q2) hp (by rw [hmv]; exact hsv) (hs.mf q2) hsi
        rw [hmv, ← hgd] at r1
        rw [hmv] at r2
        have pz2 : zft J2 (sp_gl P Sp S (b * 30 + v)) := ⟨by rw [r5 52 (by omega) (by omega)]; exact pz.1, fun i h => by rw [r4 1894 (by omega) (by omega) (by omega)]; exact pz.2 i h⟩
        have p3' : J2 1860 1 = I 1860 1 := by rw [r5 1 (by omega) (by omega), zu_row (by decide)]; exact p3
        have hl : (sp_gl P Sp S (b * 30 + v)).length < 180 := by have := hlen (b * 30 + v); omega
        cases hv2 : sp_gd P Sp S (b * 30 + v) with
        | false =>
          rw [hv2] at r1
          refine Or.inl ⟨(nI (v + 1 + 1), J2), ?_, rfl, ⟨?_, q2.tr r3, p3'⟩, _, r2⟩
          · dsimp only
            simp only [F_X7_tellFits_L26, if_neg hN, zin_n (show b < 12 by omega), nI_c (show b < 2147483648 by omega), ↓reduceIte, zg_true, zb1_e, zb2_e, zb3_e, zsum, zlet_e, nI_1, if_neg c, r1, zb2_e, q_b, Bool.false_eq_true, if_false, not_true_eq_false]
          · unfold sp_gl; rw [← Nat.add_assoc, zgl, hv2]; exact pz2
        | true =>
          rw [hv2] at r1
          have ec : (100 : Int32) * nI b + nI (v + 1) = zcd (b * 30 + v) := by
            unfold zcd
            rw [eg1, eg2, show (100 : Int32) * nI b = nI (100 * b) from nI_mul (a := 100) (by omega) (by decide) (by omega), nI_add]
            congr 1
            omega
          refine Or.inl ⟨(nI (v + 1 + 1), zu (zu J2 1894 (sp_gl P Sp S (b * 30 + v)).length (zcd (b * 30 + v))) 1860 52 (nI ((sp_gl P Sp S (b * 30 + v)).length + 1))), ?_, rfl, ⟨?_, ((q2.tr r3).zu (by simp [zmsc])).zu (by simp [zmsc]), by dsimp only; rw [zu_off (by omega), zu_row (by decide)]; exact p3'⟩, nI (v + 1), ?_⟩
          · dsimp only
            simp only [F_X7_tellFits_L26, if_neg hN, zin_n (show b < 12 by omega), nI_c (show b < 2147483648 by omega), ↓reduceIte, zg_true, zb1_e, zb2_e, zb3_e, zsum, zlet_e, nI_1, if_neg c, r1, zb2_e, q_b, if_true, if_pos (show ¬ (1 : Int32) = 0 by decide), pz2.1, zin_n hl, nI_c (show (sp_gl P Sp S (b * 30 + v)).length < 2147483648 by omega), ec, zu_row (show 1860 ≠ 1894 by decide)]
          · have := zft_app (g := b * 30 + v) pz2 hl
            show zft _ (zgl _ (b * 30 + (v + 1)))
            rw [← Nat.add_assoc, zgl, hv2]
            exact this
          · dsimp only
            rw [zmvo (by simp [zmok]), zmvo (by simp [zmok])]
            exact r2
    · rintro ⟨_, J0⟩ ⟨rfl, e1, e3⟩
      exact ⟨J0, rfl, e1, e3⟩
  · rintro ⟨_, J⟩ ⟨rfl, e1, e2⟩
    have hm : zML J P := (hQ.mf e1.2.1).1
    refine ⟨J, ?_, e1, e2⟩
    dsimp only
    simp only [F_X7_tellFits_L7, hm.2.1, ↓reduceIte, nI_le (Nat.le_refl (pnb P)) (show pnb P < 2 ^ 31 by omega)]
theorem F7_hidden_ok (hQ : zMQ I P X) (hp : pInv P) (hi : sInv P (zmv2 (pnf P) (pnb P) I)) (hs : zMSp I Sp) (hsi : spInv P Sp) (w : Int32) : ∃ J, F_X7_hidden w I = some (qV (q_hidden P Sp (zmv2 (pnf P) (pnb P) I) w), J) ∧ J 1860 1 = qE (q_hidden P Sp (zmv2 (pnf P) (pnb P) I) w) ∧ zmv2 (pnf P) (pnb P) J = zmv2 (pnf P) (pnb P) I ∧ zmf I J := by
  have hc := zmf_c1 (I := I) (v := 0)
  have hQ1 := hQ.mf hc
  have em : zmv2 (pnf P) (pnb P) (zu I 1860 1 0) = zmv2 (pnf P) (pnb P) I := zmv2_c1
  have hnf := hp.1
  have hnb := hp.2.1
  have hs1 := hs.mf hc
  have h10 : ¬ (1 : Int32) = 0 := by decide
  unfold q_hidden
  rcases zib_cases w 2 (by decide) with ⟨w, hw, rfl⟩ | ⟨hw, hw2⟩
  · rw [q_in_ok hw (by decide)]
    have hz := F7_isIn_0 (I := zu I 1860 1 0) (nI w) 2 (h64 := 2) rfl
    rw [show zib (nI w) 0 2 = 1 from zib_nI hw (by decide)] at hz
    have hw2 : (nI w = 2) ↔ w = 2 := nI_eq (b := 2) (by omega) (by omega)
    have hw0 : (nI w = 0) ↔ w = 0 := nI_eq (b := 0) (by omega) (by omega)
    by_cases c2 : w = 2
    · obtain ⟨J, g1, g2, g3, g4, g5⟩ := F7_isAs_ok hQ1 hp (by rw [em]; exact hi) hs1 hsi
      rw [em] at g1 g2
      refine ⟨J, ?_, by rw [g5 1 (by omega) (by omega), zu_same]; rfl, g2, hc.tr g3⟩
      rw [if_pos c2]
      subst c2
      simp only [F_X7_hidden, ↓reduceIte, zg_true, zb1_e, zb2_e, zb3_e, zsum, zlet_e, nI_1, hz, if_pos h10, hw2, not_true_eq_false, if_false, g1, zb2_e, qV]
      cases sp_sp P Sp (zmv2 (pnf P) (pnb P) I) <;> rfl
    · rw [if_neg c2]
      obtain ⟨J, g1, g2, g3, g4, g5, -⟩ := F7_tell_ok hQ1 hp (by rw [em]; exact hi) hs1 hsi
      rw [em] at g2 g3
      have hl : (sp_gl P Sp (zmv2 (pnf P) (pnb P) I) (pnb P * 30)).length < 200 := by have : (sp_gl P Sp (zmv2 (pnf P) (pnb P) I) (pnb P * 30)).length ≤ pnb P * 30 := zgl_len _ _; omega
      refine ⟨J, ?_, by rw [g5, zu_same]; rfl, g3, hc.tr g4⟩
      simp only [F_X7_hidden, ↓reduceIte, zg_true, zb1_e, zb2_e, zb3_e, zsum, zlet_e, nI_1, hz, if_pos h10, hw2, c2, not_false_eq_true, if_true, g1, hw0, qV, g2.1]
      by_cases c : w = 0
      · rw [if_neg (fun h => h c), if_pos c]
      · rw [if_pos c, if_neg c]
        have g22 := g2.2
        generalize sp_gl P Sp (zmv2 (pnf P) (pnb P) I) (pnb P * 30) = l at *
        cases l with
        | nil => rw [if_neg (fun h => h rfl)]; rfl
        | cons x l => rw [if_pos (show ¬ nI (x :: l).length = 0 from nI_ne0 (Nat.succ_pos _) (by omega)), g22 0 (Nat.succ_pos _)]; rfl
  · rw [q_in_no hw2]
    have hz := F7_isIn_0 (I := zu I 1860 1 0) w 2 (h64 := 2) rfl
    rw [show zib w 0 2 = 0 from hw] at hz
    (obtain ⟨J, g1, g2, g3, g4⟩ := F7_fail_ok (P := P) 1 1 rfl hc em; refine ⟨J, ?_, g2, g3, g4⟩; simp only [F_X7_hidden, zlet_e, zb1_e, g1, zb2_e, qV, hz]; try first | rfl | exact zlt_if (n := 1) (by assumption))
end L24
