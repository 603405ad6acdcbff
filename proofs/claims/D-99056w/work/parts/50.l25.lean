/-! L25: winters -/
theorem i_and15 (z : Int32) : ∃ m, m ≤ 32767 ∧ z &&& 32767 = nI m := by
  refine ⟨(z &&& 32767).toBitVec.toNat, ?_, ?_⟩
  · rw [Int32.toBitVec_and, BitVec.toNat_and]
    exact Nat.and_le_right
  · unfold nI
    apply Int32.toBitVec_inj.mp
    simp
def sp_dn (s : Int32) : Int32 := s * 1103515245 + 12345
def sp_dv (s n : Int32) : Int32 := ((s >>> ((16 : Int32) &&& (31 : Int32))) &&& (32767 : Int32)) - ((s >>> ((16 : Int32) &&& (31 : Int32))) &&& (32767 : Int32)) / n * n
theorem sp_dv_ok (s : Int32) {n : Nat} (h0 : 0 < n) (hn : n < 1000) : ∃ f, f < n ∧ sp_dv s (nI n) = nI f := by
  obtain ⟨m, h1, h2⟩ := i_and15 (s >>> ((16 : Int32) &&& (31 : Int32)))
  unfold sp_dv
  rw [h2]
  refine ⟨m % n, Nat.mod_lt _ h0, ?_⟩
  have h3 : m / n * n ≤ m := Nat.div_mul_le_self m n
  have h4 : m / n ≤ m := Nat.div_le_self m n
  rw [nI_div (by omega) (by omega) h0, nI_mul (by omega) (by omega) (by omega), nI_sub h3 (by omega)]
  congr 1
  have := Nat.div_add_mod m n
  rw [Nat.mul_comm] at this
  omega
def sp_hap (P : zP) (S : zS) (f : Nat) (how : Int32) : zS :=
  if how = 0 then zu (zu S 0 f (S 0 f - S 0 f / 10)) 1 f (zmin (S 1 f) (S 0 f - S 0 f / 10))
  else if how = 1 then (if prm P f < S 0 f + 10 then S else zu S 0 f (S 0 f + 10)) else S
def sp_fro (P : zP) (S : zS) (s : Int32) : zS × Int32 := if pnf P = 0 then (S, s) else (sp_hap P S (sp_dv (sp_dn s) (nI (pnf P))).toNatClampNeg (sp_dv (sp_dn (sp_dn s)) 4), sp_dn (sp_dn s))
def sp_win (P : zP) (S : zS) (s : Int32) : Nat → zS × Int32
  | 0 => (S, s)
  | n + 1 => (sp_ye P (sp_fro P (sp_win P S s n).1 (sp_win P S s n).2).1, (sp_fro P (sp_win P S s n).1 (sp_win P S s n).2).2)
def q_winter (P : zP) (S : zS) (sd y w : Int32) : Int32 ⊕ Nat := q_in w 2 1 fun w => q_in y 50 2 fun n => .inl (if w = 0 then zsm ((sp_win P S sd n).1 0) (pnf P) else if w = 1 then zsm ((sp_win P S sd n).1 8) (pnb P) - zsm (S 8) (pnb P) else zcn (fun f => decide ((sp_win P S sd n).1 0 f = 0)) (pnf P))
theorem sInv_hap {P : zP} {S : zS} (hp : pInv P) (h : sInv P S) {f : Nat} (hf : f < pnf P) (how : Int32) : sInv P (sp_hap P S f how) := by
  obtain ⟨r0, r1, r2⟩ := h.2 f hf
  unfold rg at r0 r1
  have e0 : (S 0 f / 10).toInt = (S 0 f).toInt / 10 := i_div r0.1 (by decide)
  have e1 : (S 0 f - S 0 f / 10).toInt = (S 0 f).toInt - (S 0 f).toInt / 10 := by rw [i_sub (by omega) (by omega), e0]
  have e2 : (S 0 f + 10).toInt = (S 0 f).toInt + 10 := i_add (y := 10) (by show _ ≤ _ + 10; omega) (by show _ + 10 < _; omega)
  have rm := (hp.2.2.2.2.2.1 f hf).1
  unfold rg at rm
  unfold sp_hap
  split
  · refine ⟨fun b' hb' => ?_, fun f' hf' => ?_⟩
    · have z : ∀ r, 2 ≤ r → ∀ {v1 v2 : Int32}, zu (zu S 0 f v1) 1 f v2 r b' = S r b' := fun r hr v1 v2 => by rw [zu_off (by omega), zu_off (by omega)]
      rw [z 4 (by decide), z 3 (by decide), z 5 (by decide), z 6 (by decide), z 7 (by decide)]
      exact h.1 b' hb'
    · obtain ⟨g1, g2, g3⟩ := h.2 f' hf'
      by_cases e : f' = f
      · subst e
        have z0 : ∀ {v1 v2 : Int32}, zu (zu S 0 f' v1) 1 f' v2 0 f' = v1 := by simp [zu]
        have z2 : ∀ {v1 v2 : Int32}, zu (zu S 0 f' v1) 1 f' v2 2 f' = S 2 f' := by simp [zu]
        rw [z0, zu_same, z2]
        unfold rg
        rw [i_min, e1]
        exact ⟨by omega, by omega, g3⟩
      · have z : ∀ r, ∀ {v1 v2 : Int32}, zu (zu S 0 f v1) 1 f v2 r f' = S r f' := fun r v1 v2 => by rw [zu_off fun q => e q.2, zu_off fun q => e q.2]
        rw [z, z, z]
        exact ⟨g1, g2, g3⟩
  · split
    · split
      · exact h
      · rename_i hc
        have hc' := mt iL.mpr hc
        rw [e2] at hc'
        refine ⟨fun b' hb' => ?_, fun f' hf' => ?_⟩
        · have z : ∀ r, 2 ≤ r → ∀ {v1 : Int32}, zu S 0 f v1 r b' = S r b' := fun r hr v1 => by rw [zu_off (by omega)]
          rw [z 4 (by decide), z 3 (by decide), z 5 (by decide), z 6 (by decide), z 7 (by decide)]
          exact h.1 b' hb'
        · obtain ⟨g1, g2, g3⟩ := h.2 f' hf'
          have z : ∀ r, 1 ≤ r → ∀ {v1 : Int32}, zu S 0 f v1 r f' = S r f' := fun r hr v1 => by rw [zu_off (by omega)]
          rw [z 1 (by decide), z 2 (by decide)]
          by_cases e : f' = f
          · subst e
            rw [zu_same]
            unfold rg at *
            rw [e2]
            exact ⟨by omega, by omega, g3⟩
          · rw [zu_off fun q => e q.2]
            exact ⟨g1, g2, g3⟩
    · exact h
theorem sInv_fro {P : zP} {S : zS} (hp : pInv P) (h : sInv P S) (s : Int32) : sInv P (sp_fro P S s).1 := by
  unfold sp_fro
  split
  · exact h
  · rename_i h0
    have hnf := hp.1
    obtain ⟨f, h1, h2⟩ := sp_dv_ok (sp_dn s) (n := pnf P) (by omega) (by omega)
    dsimp only
    rw [h2, nI_c (by omega)]
    exact sInv_hap hp h h1 _
theorem sInv_win {P : zP} {S : zS} (hp : pInv P) (h : sInv P S) (s : Int32) : ∀ n, sInv P (sp_win P S s n).1 := by
  intro n
  induction n with
  | zero => exact h
  | succ n ih => rw [sp_win]; dsimp only; exact sInv_ye hp (sInv_fro hp ih _)
section L25
variable {K : zKd} {F : zFd} {I : zId} {a N : Nat} {P : zP} {X : zXd}
theorem F_draw_ok (k0 : K 1000 = some (0, 0)) (n : Int32) (hn : ¬ n = 0) : F_X1_draw K F 1000 n I = some (sp_dv (sp_dn (I 1000 11)) n, zu I 1000 11 (sp_dn (I 1000 11))) := by
  have hd : (!(decide (n = 0))) = true := by rw [decide_eq_false hn]; rfl
  unfold F_X1_draw
  rw [zka_eq k0, d1000, zg_true, zlet_e, hd, zg_true]
  unfold sp_dv sp_dn
  rw [zu_same]
set_option maxHeartbeats 1000000 in
theorem F_happens_ok (h : zCQ K F I a N P X) (hp : pInv P) (h0 : 0 < pnf P) : ∃ J, F_X1_happens K F 1000 I = some J ∧ (zcv (pnf P) (pnb P) J 1847, J 1000 11) = sp_fro P (zcv (pnf P) (pnb P) I 1847) (I 1000 11) ∧ zcf a I J := by
  have hnf := hp.1
  have hfo := F_forests_ok h
  have hd := h.2.2.2.2.2.2
  obtain ⟨k0, ⟨f0, f1, f2, f3, f4, -⟩, -, ⟨hN, hT⟩, hL, hQ, -⟩ := h
  obtain ⟨t6, tk, ⟨tf0, tf1, -⟩, tk1, tk2, -⟩ := hT
  obtain ⟨l1, l2, l3, -, -, -, ⟨E, fo, g1, g2, g3⟩, -⟩ := hL
  have dr1 := F_draw_ok (F := F) (I := I) k0 (nI (pnf P)) (nI_ne0 h0 (by omega))
  have dr2 := F_draw_ok (F := F) (I := zu I 1000 11 (sp_dn (I 1000 11))) k0 4 (by decide)
  rw [zu_same] at dr2
  unfold sp_fro
  rw [if_neg (show ¬ pnf P = 0 by omega)]
  generalize sp_dn (I 1000 11) = s1 at dr1 dr2 ⊢
  generalize sp_dn s1 = s2 at dr2 ⊢
  generalize sp_dv s2 4 = how at dr2 ⊢
  obtain ⟨f, hf, ef⟩ := sp_dv_ok s1 h0 (by omega)
  rw [ef] at dr1 ⊢
  rw [nI_c (show f < 2147483648 by omega)]
  obtain ⟨q1, q2, q3, q4, q5⟩ := g3 f hf
  obtain ⟨J, eJ⟩ : ∃ J, J = zu (zu I 1000 11 s1) 1000 11 s2 := ⟨_, rfl⟩
  rw [← eJ] at dr2
  have hI2 : ∀ x, x ≠ 1000 → J x = I x := fun x hx => by rw [eJ, zu_row hx, zu_row hx]
  have hal : J (a + 1) = I (a + 1) := hI2 _ (by omega)
  have hcv : zcv (pnf P) (pnb P) J 1847 = zcv (pnf P) (pnb P) I 1847 := zcv_row fun x h1 h2 => hI2 x (by omega)
  have hcf : zcf a I J := by rw [eJ]; exact (zcf.rf.zu (by simp [zcsc])).zu (by simp [zcsc])
  have hs2 : J 1000 11 = s2 := by rw [eJ, zu_same]
  have hg2 := g2.cg hal
  have hget := zAL_get hg2 (by omega) hf q1
  clear eJ
  have q4' : J (fo f) 2 = prm P f := by rw [hI2 _ (by omega)]; exact q4
  have d8 : decide (600 ≤ 1847 + 1) = true := rfl
  have d9 : decide (600 ≤ 1847 + 2) = true := rfl
  have zf := zin_n (show f < 8 by omega)
  have cf := nI_c (show f < 2147483648 by omega)
  have a0 : zcv (pnf P) (pnb P) J 1847 0 f = J 1848 f := zcv0 hf
  have a1 : zcv (pnf P) (pnb P) J 1847 1 f = J 1849 f := zcv1 hf
  unfold sp_hap
  rw [← hcv, a0, a1]
  by_cases c0 : how = 0
  · rw [if_pos c0]
    refine ⟨zu (zu J 1848 f (J 1848 f - J 1848 f / 10)) 1849 f (zmin (J 1849 f) (J 1848 f - J 1848 f / 10)), ?_, ?_, (hcf.zu (by simp [zcsc])).zu (by simp [zcsc])⟩
    · simp only [F_X1_happens, ↓zka_eq k0, hfo, zg_true, zb1_e, zb2_e, zlet_e, dr1, dr2, c0, not_true_eq_false, if_false, d1000, d1847, f4, ↓zka_eq tk, tf0, tf1, ↓zka_eq tk1, ↓zka_eq tk2, zf, cf, d8, d9, zu_row (show 1847 + 2 ≠ 1847 + 1 by decide), zu_same]
    · refine Prod.ext ?_ ?_
      · have z1 := zcvu1 (nf := pnf P) (nb := pnb P) (I := zu J 1848 f (J 1848 f - J 1848 f / 10)) (o := 1847) (v := zmin (J 1849 f) (J 1848 f - J 1848 f / 10)) hf
        have z0 := zcvu0 (nf := pnf P) (nb := pnb P) (I := J) (o := 1847) (v := J 1848 f - J 1848 f / 10) hf
        rw [z0] at z1
        exact z1
      · dsimp only
        rw [zu_row (by decide), zu_row (by decide)]
        exact hs2
  · rw [if_neg c0]
    by_cases c1 : how = 1
    · rw [if_pos c1]
      by_cases c2 : prm P f < J 1848 f + 10
      · rw [if_pos c2]
        refine ⟨J, ?_, Prod.ext rfl hs2, hcf⟩
        simp only [F_X1_happens, ↓zka_eq k0, hfo, zg_true, zb1_e, zb2_e, zlet_e, dr1, dr2, c1, not_true_eq_false, if_false, if_pos (show ¬ (1 : Int32) = 0 by decide), d1000, d1847, f0, f4, ↓zka_eq tk, tf0, ↓zka_eq tk1, ↓zka_eq l3, decide_eq_true l1, g1, ↓zka_eq g2.2.1, hget, ↓zka_eq q3, decide_eq_true (show 600 ≤ fo f by omega), zf, cf, q4', if_pos c2]
      · rw [if_neg c2]
        refine ⟨zu J 1848 f (J 1848 f + 10), ?_, Prod.ext ?_ ?_, hcf.zu (by simp [zcsc])⟩
        · simp only [F_X1_happens, ↓zka_eq k0, hfo, zg_true, zb1_e, zb2_e, zlet_e, dr1, dr2, c1, not_true_eq_false, if_false, if_pos (show ¬ (1 : Int32) = 0 by decide), d1000, d1847, f0, f4, ↓zka_eq tk, tf0, ↓zka_eq tk1, ↓zka_eq l3, decide_eq_true l1, g1, ↓zka_eq g2.2.1, hget, ↓zka_eq q3, decide_eq_true (show 600 ≤ fo f by omega), zf, cf, q4', if_neg c2, d8]
        · exact zcvu0 (o := 1847) hf
        · dsimp only
          rw [zu_row (by decide)]
          exact hs2
    · rw [if_neg c1]
      refine ⟨J, ?_, Prod.ext rfl hs2, hcf⟩
      unfold F_X1_happens
      rw [zka_eq k0, hfo, zb1_e, dr1, zb2_e, dr2, zb2_e, if_pos c0, if_pos c1]
theorem F_all_ok {o nf nb : Nat} {J : zId} (hS : zSL K F o) (hb : nf ≤ 8) : F_X6_all K F o (nI nf) J = some (zsm (zcv nf nb J o 0) nf) := by
  have s := zloop_up (body := fun s : Int32 × Int32 => F_X6_all_L4 K F o (nI nf) J s.1 s.2) (fun i s => s = (zsm (zcv nf nb J o 0) i, nI i)) (fun t => t = zsm (zcv nf nb J o 0) nf) nf ?_ ?_ 0 (0, 0) (Nat.zero_le _) rfl
  · obtain ⟨t, h1, rfl⟩ := s
    simp only [F_X6_all, h1, zb1_e]
  · obtain ⟨h6, k0, ⟨f0, -⟩, k1, -⟩ := hS
    rintro i s hib rfl
    refine Or.inl ⟨(zsm (zcv nf nb J o 0) (i + 1), nI (i + 1)), ?_, rfl⟩
    dsimp only
    simp only [F_X6_all_L4, nI_ge hib (show nf < 2 ^ 31 by omega), ↓zka_eq k0, decide_eq_true h6, f0, ↓reduceIte, zg_true, zb1_e, zb2_e, zb3_e, zsum, zlet_e, nI_1, ↓zka_eq k1, zin_n (show i < 8 by omega), nI_c (show i < 2147483648 by omega), zsm, zcv0 hib]
  · rintro s rfl
    dsimp only
    simp only [F_X6_all_L4, ↓reduceIte, nI_le (Nat.le_refl (nf)) (show nf < 2 ^ 31 by omega)]
    exact ⟨_, rfl, rfl⟩
theorem F_winter_ok (h : zCQ K F I a N P X) (hp : pInv P) (hi : sInv P (zcv (pnf P) (pnb P) I 1014)) (sd y w : Int32) : ∃ J, F_X1_winter K F 1000 sd y w I = some (qC (q_winter P (zcv (pnf P) (pnb P) I 1014) sd y w), J) ∧ zcf a I J := by
  obtain ⟨h1, h2⟩ := F_tl_ok h
  have e0 : zcv (pnf P) (pnb P) (zlk I 1847 1014) 1847 = zcv (pnf P) (pnb P) I 1014 := zlk_cv hp.1 hp.2.1 (by decide)
  have h0 := h
  have hnf := hp.1
  have hnb := hp.2.1
  obtain ⟨k0, ⟨f0, f1, f2, f3, f4, f6, f9, f10⟩, ⟨kt, kw, ks⟩, ⟨hN, hT⟩, hL, hQ, hd⟩ := h
  unfold q_winter
  rcases zib_cases w 2 (by decide) with ⟨w, hw, rfl⟩ | ⟨hw, hw2⟩
  · rw [q_in_ok hw (by decide)]
    have ew : F_X1_within K F (nI w) 0 2 I = some 1 := by rw [F_within_ok]; exact congrArg some (zib_nI hw (by decide))
    rcases zib_cases y 50 (by decide) with ⟨n, hn, rfl⟩ | ⟨hy, hy2⟩
    · rw [q_in_ok hn (by decide)]
      have ey : F_X1_within K F (nI n) 0 50 I = some 1 := by rw [F_within_ok]; exact congrArg some (zib_nI hn (by decide))
      have hw1 : (nI w = 1) ↔ w = 1 := nI_eq (b := 1) (by omega) (by omega)
      have hw0 : (nI w = 0) ↔ w = 0 := nI_eq (b := 0) (by omega) (by omega)
      have hc0 : zcv (pnf P) (pnb P) (zu (zlk I 1847 1014) 1000 11 sd) 1847 = (zcv (pnf P) (pnb P) I 1014) := by rw [← e0]; exact zcvo (by omega)
      have s := zloop_up (body := fun s : Int32 × zId => F_X1_winter_L38 K F 1000 (nI n) s.1 s.2) (fun i s => s.1 = nI i ∧ (zcv (pnf P) (pnb P) s.2 1847, s.2 1000 11) = sp_win P (zcv (pnf P) (pnb P) I 1014) sd i ∧ zcf a I s.2) (fun t => zcv (pnf P) (pnb P) t 1847 = (sp_win P (zcv (pnf P) (pnb P) I 1014) sd n).1 ∧ zcf a I t) n ?_ ?_ 0 (0, zu (zlk I 1847 1014) 1000 11 sd) (Nat.zero_le _) ⟨rfl, Prod.ext hc0 (show zu (zlk I 1847 1014) 1000 11 sd 1000 11 = sd from zu_same), h2.zu (by simp [zcsc])⟩
      · obtain ⟨J, s1, s2, s3⟩ := s
        refine ⟨J, ?_, s3⟩
        have hJ := h0.cf s3
        have hv : ∀ f, f < pnf P → J 1848 f = (sp_win P (zcv (pnf P) (pnb P) I 1014) sd n).1 0 f := fun f hf => by rw [← s2]; exact (zcv0 hf).symm
        have l := zloop_up (body := fun s : Int32 × Int32 => F_X1_winter_L78 K F 1000 J s.1 s.2) (fun i s => s = (zcn (fun f => decide ((sp_win P (zcv (pnf P) (pnb P) I 1014) sd n).1 0 f = 0)) i, nI i)) (fun t => t = zcn (fun f => decide ((sp_win P (zcv (pnf P) (pnb P) I 1014) sd n).1 0 f = 0)) (pnf P)) (pnf P) ?_ ?_ 0 (0, 0) (Nat.zero_le _) rfl
        · obtain ⟨v, l1, l2⟩ := l
          have d1 := F_allDead_ok (nf := pnf P) (J := J) hT hp.2.1
          have d2 := F_allDead_ok (nf := pnf P) (J := J) hN hp.2.1
          have d3 := F_all_ok (nb := pnb P) (J := J) hT hp.1
          rw [s2] at d1 d3
          rw [s3.now h0] at d2
          simp only [F_X1_winter, ew, ey, ↓reduceIte, zg_true, zb1_e, zb2_e, zb3_e, zsum, zlet_e, nI_1, F_there_1, F_right_1, ↓zka_eq k0, d1000, f3, f4, ↓zka_eq hT.2.1, ↓zka_eq hN.2.1, h1, s1, l1, l2, F_bands_ok hJ, F_forests_ok hJ, d1, d2, d3, hw0, hw1, qC]
          by_cases c0 : w = 0
          · rw [if_neg (fun h => h c0), if_pos c0]
          · rw [if_pos c0, if_neg c0]
            by_cases c1 : w = 1
            · rw [if_neg (fun h => h c1), if_pos c1]
            · rw [if_pos c1, if_neg c1]
        · rintro i s hib rfl
          obtain ⟨t6, tk, ⟨tf0, -⟩, tk1, -⟩ := hT
          dsimp only
          by_cases c : (sp_win P (zcv (pnf P) (pnb P) I 1014) sd n).1 0 i = 0
          · refine Or.inl ⟨(zcn (fun f => decide ((sp_win P (zcv (pnf P) (pnb P) I 1014) sd n).1 0 f = 0)) (i + 1), nI (i + 1)), ?_, rfl⟩
            simp only [F_X1_winter_L78, ↓zka_eq k0, F_forests_ok hJ, ↓reduceIte, zg_true, zb1_e, zb2_e, zb3_e, zsum, zlet_e, nI_1, nI_ge hib (show pnf P < 2 ^ 31 by omega), d1000, d1847, f4, ↓zka_eq tk, tf0, ↓zka_eq tk1, zin_n (show i < 8 by omega), nI_c (show i < 2147483648 by omega), hv i hib, c, not_true_eq_false, if_false, zcn, decide_true, if_true]
          · refine Or.inl ⟨(zcn (fun f => decide ((sp_win P (zcv (pnf P) (pnb P) I 1014) sd n).1 0 f = 0)) (i + 1), nI (i + 1)), ?_, rfl⟩
            simp only [F_X1_winter_L78, ↓zka_eq k0, F_forests_ok hJ, ↓reduceIte, zg_true, zb1_e, zb2_e, zb3_e, zsum, zlet_e, nI_1, nI_ge hib (show pnf P < 2 ^ 31 by omega), d1000, d1847, f4, ↓zka_eq tk, tf0, ↓zka_eq tk1, zin_n (show i < 8 by omega), nI_c (show i < 2147483648 by omega), hv i hib, c, not_false_eq_true, if_true, zcn, decide_false, Bool.false_eq_true, if_false]
        · rintro s rfl
          dsimp only
          simp only [F_X1_winter_L78, ↓zka_eq k0, F_forests_ok hJ, zb1_e, ↓reduceIte, nI_le (Nat.le_refl (pnf P)) (show pnf P < 2 ^ 31 by omega)]
          exact ⟨_, rfl, rfl⟩
      · rintro i ⟨_, J⟩ hin ⟨rfl, e1, e3⟩
        dsimp only at e1 e3
        have c1 := congrArg Prod.fst e1
        have c2 := congrArg Prod.snd e1
        dsimp only at c1 c2
        have hJ := h0.cf e3
        have hsv := sInv_win hp hi sd i
        by_cases hz : pnf P = 0
        · have hfr : sp_fro P (sp_win P (zcv (pnf P) (pnb P) I 1014) sd i).1 (sp_win P (zcv (pnf P) (pnb P) I 1014) sd i).2 = sp_win P (zcv (pnf P) (pnb P) I 1014) sd i := by unfold sp_fro; rw [if_pos hz]
          obtain ⟨J1, g1, g2, -, g4⟩ := F_goT_ok hJ hp (by rw [c1]; exact hsv)
          have e11 : J1 1000 11 = J 1000 11 := by
            have hLL := hL
            obtain ⟨J', g1', -, -, g4'⟩ := F_goes_ok hT hJ.2.2.2.2.1 hp hJ.tr (by rw [c1]; exact hsv)
            rw [g1'] at g1
            cases g1
            exact congrFun (g4' 1000 (by omega) (by omega)) 11
          refine Or.inl ⟨(nI (i + 1), J1), ?_, rfl, ?_, e3.tr g4⟩
          · dsimp only
            simp only [F_X1_winter_L38, nI_ge hin (show n < 2 ^ 31 by omega), ↓zka_eq k0, F_forests_ok hJ, ↓reduceIte, zg_true, zb1_e, zb2_e, zb3_e, zsum, zlet_e, nI_1, hz, if_pos (show nI 0 ≤ 0 from (by decide)), d1000, f4, f0, ↓zka_eq hT.2.1, g1]
          · dsimp only
            rw [sp_win, hfr, g2, e11, c1, c2]
        · obtain ⟨J0, m1, m2, m3⟩ := F_happens_ok hJ hp (by omega)
          rw [c1, c2] at m2
          have q1 := congrArg Prod.fst m2
          have q2 := congrArg Prod.snd m2
          dsimp only at q1 q2
          have hsv0 : sInv P (zcv (pnf P) (pnb P) J0 1847) := by rw [q1]; exact sInv_fro hp hsv _
          have hJ0 := hJ.cf m3
          obtain ⟨J1, g1, g2, -, g4⟩ := F_goT_ok hJ0 hp hsv0
          have e11 : J1 1000 11 = J0 1000 11 := by
            obtain ⟨J', g1', -, -, g4'⟩ := F_goes_ok hT hJ0.2.2.2.2.1 hp hJ0.tr hsv0
            rw [g1'] at g1
            cases g1
            exact congrFun (g4' 1000 (by omega) (by omega)) 11
          refine Or.inl ⟨(nI (i + 1), J1), ?_, rfl, ?_, (e3.tr m3).tr g4⟩
          · dsimp only
            simp only [F_X1_winter_L38, nI_ge hin (show n < 2 ^ 31 by omega), ↓zka_eq k0, F_forests_ok hJ, ↓reduceIte, zg_true, zb1_e, zb2_e, zb3_e, zsum, zlet_e, nI_1, if_neg (nI_nle (show 0 < pnf P by omega) (show pnf P < 2 ^ 31 by omega)), m1, d1000, f4, f0, ↓zka_eq hT.2.1, g1]
          · dsimp only
            rw [sp_win, g2, e11, q1, q2]
      · rintro ⟨_, J⟩ ⟨rfl, e1, e3⟩
        exact ⟨J, by dsimp only; simp only [F_X1_winter_L38, ↓reduceIte, nI_le (Nat.le_refl (n)) (show n < 2 ^ 31 by omega)], congrArg Prod.fst e1, e3⟩
    · rw [q_in_no hy2]
      refine ⟨I, ?_, zcf.rf⟩
      have ey : F_X1_within K F y 0 50 I = some 0 := by rw [F_within_ok]; exact congrArg some hy
      simp only [F_X1_winter, ew, ey, ↓reduceIte, zg_true, zb1_e, zb2_e, zb3_e, zsum, zlet_e, nI_1, F_there_1, F_right_0, qC]
      try rfl
  · rw [q_in_no hw2]
    refine ⟨I, ?_, zcf.rf⟩
    have ew : F_X1_within K F w 0 2 I = some 0 := by rw [F_within_ok]; exact congrArg some hw
    simp only [F_X1_winter, ew, ↓reduceIte, zg_true, zb1_e, zb2_e, zb3_e, zsum, zlet_e, nI_1, F_there_0, qC]
    try rfl
end L25
