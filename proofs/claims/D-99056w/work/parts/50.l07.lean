/-! L07: the component's grows, goes -/
section L07
variable {K : zKd} {F : zFd} {I : zId} {a N o : Nat} {P : zP}
set_option maxHeartbeats 1000000 in
theorem F_grow_ok (hS : zSL K F o) (hL : zLL K F I a N P) (hp : pInv P) (ho : o + 10 ≤ a ∨ N ≤ o) {f : Nat} (hf : f < pnf P) : ∃ I', F_X6_grows_L2 K F o a (nI f) I = some (.inl (nI (f + 1), I')) ∧ zcv (pnf P) (pnb P) I' o = sp_gr P (zcv (pnf P) (pnb P) I o) f ∧ I' o 12 = I o 12 ∧ zfr o (a + 11) I I' := by
  obtain ⟨h6, k0, ⟨f0, f1, f2, f3, f4, f5, f6, f7, f8⟩, k1, k2, k3, k4, k5, k6, k7, k8, k9⟩ := hS
  obtain ⟨l1, l2, l3, -, -, -, ⟨E, fo, g1, g2, g3⟩, -⟩ := hL
  obtain ⟨q1, ⟨q2, q2b, q2c⟩, q3, q4, q5⟩ := g3 f hf
  have hnf := hp.1
  have hsz := zAL_size g2
  have hget := zAL_get g2 (by omega) hf q1
  have zf := zin_n (show f < 8 by omega)
  have cf := nI_c (show f < 2147483648 by omega)
  have d6 : ∀ j, decide (600 ≤ o + j) = true := fun j => decide_eq_true (by omega)
  have ro : ∀ (J : zId) (i j k : Nat) (v : Int32), i ≠ j → zu J (o + i) k v (o + j) = J (o + j) := fun J i j k v h => zu_row (by omega)
  have rf1 : ∀ (J : zId) (k : Nat) (v : Int32), zu J (o + 1) k v (fo f) = J (fo f) := fun J k v => zu_row (by omega)
  have rf2 : ∀ (J : zId) (k : Nat) (v : Int32), zu J (o + 2) k v (fo f) = J (fo f) := fun J k v => zu_row (by omega)
  unfold sp_gr sp_grn
  rw [zcv0 hf, zcv1 hf, zcv2 hf]
  by_cases c : I (o + 3) f ≤ 0
  · refine ⟨zu (zu I (o + 1) f (zmax (I (o + 1) f) (zmin (prm P f) (I (o + 1) f + I (o + 1) f * pgr P f / 100)))) (o + 2) f (zmin (zmax (I (o + 1) f) (zmin (prm P f) (I (o + 1) f + I (o + 1) f * pgr P f / 100))) (I (o + 2) f + I (o + 2) f * pgr P f / 100)), ?_, ?_, ?_, ?_⟩
    · simp (decide := true) only [F_X6_grows_L2, F_X10_grown, F_X10_grownBlack, ↓zka_eq l3, ↓zka_eq k0, ↓zka_eq k1, ↓zka_eq k2, ↓zka_eq k3, ↓zka_eq g2.2.1, ↓zka_eq q3, ↓g1, ↓f0, ↓f1, ↓f2, ↓zb1_e, ↓zlet_e, zf, d6, decide_eq_true h6, decide_eq_true l1, decide_eq_true (show 600 ≤ fo f by omega), zg_true, cf, hsz, hget, if_neg (nI_ge hf (show pnf P < 2 ^ 31 by omega)), q4, q5, ro, rf1, rf2, zu_same, ne_eq, if_pos c, nI_1]
    · rw [if_pos c, zcvu1 hf, zcvu0 hf]
      have e2 : I (o + 3) f = zu (zu (zcv (pnf P) (pnb P) I o) 0 f (zmax (I (o + 1) f) (zmin (prm P f) (I (o + 1) f + I (o + 1) f * pgr P f / 100)))) 1 f (zmin (zmax (I (o + 1) f) (zmin (prm P f) (I (o + 1) f + I (o + 1) f * pgr P f / 100))) (I (o + 2) f + I (o + 2) f * pgr P f / 100)) 2 f := by
        rw [zu_off (by omega), zu_off (by omega), zcv2 hf]
      rw [e2, zu_self]
    · rw [zu_off (by omega), zu_off (by omega)]
    · intro x hx hx2
      rw [zu_row (by omega), zu_row (by omega)]
  · refine ⟨zu (zu (zu I (o + 1) f (zmax (I (o + 1) f) (zmin (prm P f) (I (o + 1) f + I (o + 1) f * pgr P f / 100)))) (o + 2) f (zmin (zmax (I (o + 1) f) (zmin (prm P f) (I (o + 1) f + I (o + 1) f * pgr P f / 100))) (I (o + 2) f + I (o + 2) f * pgr P f / 100))) (o + 3) f (I (o + 3) f - 1), ?_, ?_, ?_, ?_⟩
    · simp (decide := true) only [F_X6_grows_L2, F_X10_grown, F_X10_grownBlack, ↓zka_eq l3, ↓zka_eq k0, ↓zka_eq k1, ↓zka_eq k2, ↓zka_eq k3, ↓zka_eq g2.2.1, ↓zka_eq q3, ↓g1, ↓f0, ↓f1, ↓f2, ↓zb1_e, ↓zlet_e, zf, d6, decide_eq_true h6, decide_eq_true l1, decide_eq_true (show 600 ≤ fo f by omega), zg_true, cf, hsz, hget, if_neg (nI_ge hf (show pnf P < 2 ^ 31 by omega)), q4, q5, ro, rf1, rf2, zu_same, ne_eq, if_neg c, nI_1]
    · rw [if_neg c, zcvu2 hf, zcvu1 hf, zcvu0 hf]
    · rw [zu_off (by omega), zu_off (by omega), zu_off (by omega)]
    · intro x hx hx2
      rw [zu_row (by omega), zu_row (by omega), zu_row (by omega)]
theorem F_grows_ok (hS : zSL K F o) (hL : zLL K F I a N P) (hp : pInv P) (ho : o + 10 ≤ a ∨ N ≤ o) : ∃ I', F_X6_grows K F o a I = some I' ∧ zcv (pnf P) (pnb P) I' o = sp_fs P (zcv (pnf P) (pnb P) I o) (pnf P) ∧ I' o 12 = I o 12 ∧ zfr o (a + 11) I I' := by
  have hnf := hp.1
  have s := zloop_up (body := fun s : Int32 × zId => F_X6_grows_L2 K F o a s.1 s.2) (fun i s => s.1 = nI i ∧ zcv (pnf P) (pnb P) s.2 o = sp_fs P (zcv (pnf P) (pnb P) I o) i ∧ s.2 o 12 = I o 12 ∧ zfr o (a + 11) I s.2) (fun t => zcv (pnf P) (pnb P) t o = sp_fs P (zcv (pnf P) (pnb P) I o) (pnf P) ∧ t o 12 = I o 12 ∧ zfr o (a + 11) I t) (pnf P) ?_ ?_ 0 (0, I) (Nat.zero_le _) ⟨rfl, rfl, rfl, fun x _ _ => rfl⟩
  · obtain ⟨t, h1, h2, h3, h4⟩ := s
    exact ⟨t, by simp only [F_X6_grows, h1, zb1_e], h2, h3, h4⟩
  · rintro i ⟨_, J⟩ hi ⟨rfl, e1, e2, e3⟩
    obtain ⟨J', g1, g2, g3, g4⟩ := F_grow_ok hS (e3.ll hL ho) hp ho hi
    refine Or.inl ⟨_, g1, rfl, ?_, by dsimp only; rw [g3]; exact e2, e3.tr g4⟩
    dsimp only at e1 ⊢
    rw [g2, e1, sp_fs]
  · rintro ⟨_, J⟩ ⟨rfl, e1, e2, e3⟩
    obtain ⟨l1, l2, l3, -, -, -, ⟨E, fo, g1, g2, g3⟩, -⟩ := e3.ll hL ho
    refine ⟨J, ?_, e1, e2, e3⟩
    dsimp only
    simp only [F_X6_grows_L2, ↓zka_eq l3, decide_eq_true l1, zg_true, g1, zb1_e, ↓zka_eq g2.2.1, zAL_size g2, if_pos (nI_le (Nat.le_refl _) (show pnf P < 2 ^ 31 by omega))]
theorem F_goes_ok (hS : zSL K F o) (hL : zLL K F I a N P) (hp : pInv P) (ho : o + 10 ≤ a ∨ N ≤ o) (hi : sInv P (zcv (pnf P) (pnb P) I o)) : ∃ I', F_X6_goes K F o a I = some I' ∧ zcv (pnf P) (pnb P) I' o = sp_ye P (zcv (pnf P) (pnb P) I o) ∧ I' o 12 = sp_lb P (zcv (pnf P) (pnb P) I o) ∧ zfr o (a + 11) I I' := by
  have hnb := hp.2.1
  have hN : a + 12 ≤ N := hL.2.1
  have h6 := hS.1
  have k0 := hS.2.1
  have hI1 : zfr o (a + 11) I (zu I o 12 (-1)) := fun x hx _ => zu_row (by omega)
  have s := zloop_up (body := fun s : Int32 × zId => F_X6_goes_L7 K F o a s.1 s.2) (fun i s => s.1 = nI i ∧ (zcv (pnf P) (pnb P) s.2 o, s.2 o 12) = sp_bs P (zcv (pnf P) (pnb P) I o) (-1) i ∧ zfr o (a + 11) I s.2) (fun t => (zcv (pnf P) (pnb P) t o, t o 12) = sp_bs P (zcv (pnf P) (pnb P) I o) (-1) (pnb P) ∧ zfr o (a + 11) I t) (pnb P) ?_ ?_ 0 (0, zu I o 12 (-1)) (Nat.zero_le _) ⟨rfl, by dsimp only; rw [zcvu12, zu_same]; rfl, hI1⟩
  · obtain ⟨t, h1, h2, h3⟩ := s
    obtain ⟨J, g1, g2, g3, g4⟩ := F_grows_ok hS (h3.ll hL ho) hp ho
    have e1 := congrArg Prod.fst h2
    have e2 := congrArg Prod.snd h2
    dsimp only at e1 e2
    refine ⟨zu J o 9 (J o 9 + 1), ?_, ?_, ?_, fun x hx hx2 => by rw [zu_row (by omega)]; exact (h3.tr g4) x hx hx2⟩
    · simp only [F_X6_goes, ↓zka_eq k0, decide_eq_true h6, zg_true, zlet_e, h1, zb1_e, g1]
    · have e9 : J o 9 = zcv (pnf P) (pnb P) J o 9 0 := rfl
      rw [zcvu90, e9, g2, e1]
      rfl
    · rw [zu_off (by omega), g3, e2]
      rfl
  · rintro i ⟨_, J⟩ hib ⟨rfl, e1, e3⟩
    dsimp only at e1 e3
    have c1 := congrArg Prod.fst e1
    have c2 := congrArg Prod.snd e1
    dsimp only at c1 c2
    have hLJ := e3.ll hL ho
    have hiJ : sInv P (zcv (pnf P) (pnb P) J o) := by rw [c1]; exact sInv_bs hp hi _ _ (Nat.le_of_lt hib)
    obtain ⟨J1, g1, g2, g3, g4⟩ := F_hunts_ok hS hLJ hp ho hiJ hib
    obtain ⟨J2, m1, m2, m3, m4⟩ := F_pays_ok hS (g4.ll hLJ ho) hp ho hib
    obtain ⟨l1, l2, l3, -, -, -, -, ⟨E, q1, q2⟩, -⟩ := hLJ
    refine Or.inl ⟨(nI (i + 1), J2), ?_, rfl, ?_, e3.tr (g4.tr m4)⟩
    · dsimp only
      simp only [F_X6_goes_L7, ↓zka_eq l3, decide_eq_true l1, zg_true, q1, zb1_e, ↓zka_eq q2.2.1, zAL_size q2, if_neg (nI_ge hib (show pnb P < 2 ^ 31 by omega)), ↓zka_eq k0, g1, m1, zlet_e, nI_1]
    · dsimp only
      rw [m2, g2, m3, g3, c1, c2, sp_bs]
  · rintro ⟨_, J⟩ ⟨rfl, e1, e3⟩
    obtain ⟨l1, l2, l3, -, -, -, -, ⟨E, q1, q2⟩, -⟩ := e3.ll hL ho
    refine ⟨J, ?_, e1, e3⟩
    dsimp only
    simp only [F_X6_goes_L7, ↓zka_eq l3, decide_eq_true l1, zg_true, q1, zb1_e, ↓zka_eq q2.2.1, zAL_size q2, if_pos (nI_le (Nat.le_refl _) (show pnb P < 2 ^ 31 by omega))]
end L07
