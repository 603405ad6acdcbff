/-! L06: the component's hunts, pays, grows, goes -/
theorem zu_self {α : Type} {f : Nat → Nat → α} {o k : Nat} : zu f o k (f o k) = f := by
  funext x y
  unfold zu
  split
  · rename_i h; rw [h.1, h.2]
  · rfl
section L06
variable {K : zKd} {F : zFd} {I : zId} {a N o : Nat} {P : zP}
theorem zLL.tax (h : zLL K F I a N P) : 600 ≤ a ∧ K a = some (1, 0) ∧ I a 0 = ptax P ∧ I a 1 = pfox P ∧ I a 2 = plim P := ⟨h.1, h.2.2.1, h.2.2.2.1, h.2.2.2.2.1, h.2.2.2.2.2.1⟩
set_option maxHeartbeats 1000000 in
theorem F_hunts_ok (hS : zSL K F o) (hL : zLL K F I a N P) (hp : pInv P) (ho : o + 10 ≤ a ∨ N ≤ o) (hi : sInv P (zcv (pnf P) (pnb P) I o)) {b : Nat} (hb : b < pnb P) : ∃ I', F_X6_hunts K F o a (nI b) I = some I' ∧ zcv (pnf P) (pnb P) I' o = sp_hu P (zcv (pnf P) (pnb P) I o) b ∧ I' o 12 = sp_hl P (zcv (pnf P) (pnb P) I o) b (I o 12) ∧ zfr o (a + 11) I I' := by
  obtain ⟨J, hJ, hfr⟩ := F_takes_ok hS hL hp ho hi hb
  have hN : a + 12 ≤ N := hL.2.1
  obtain ⟨e4, hf⟩ := hi.at' hp hb
  have hm := sp_tkf_rg (P := P) (b := b) (hi.2 _ hf).1.1
  have hr0 := (hi.2 _ hf).1
  obtain ⟨h6, k0, ⟨f0, f1, f2, f3, f4, f5, f6, f7, f8⟩, k1, k2, k3, k4, k5, k6, k7, k8, k9⟩ := hS
  have hnb := hp.2.1
  have hnf := hp.1
  have ecv : zcv (pnf P) (pnb P) J o = zcv (pnf P) (pnb P) I o := zcv_row fun x _ _ => hfr x (by omega)
  have eo : ∀ j, j ≤ 9 → J (o + j) = I (o + j) := fun j hj => hfr _ (by omega)
  have eo0 : J o = I o := hfr _ (by omega)
  unfold sp_hu sp_hl sp_tk at *
  generalize sp_f (zcv (pnf P) (pnb P) I o) b = f at *
  generalize sp_tkf P (zcv (pnf P) (pnb P) I o) b f = m at *
  rw [zcv4 hb] at e4 ⊢
  have zb := zin_n (show b < 6 by omega)
  have cb := nI_c (show b < 2147483648 by omega)
  have zf := zin_n (show f < 8 by omega)
  have cf := nI_c (show f < 2147483648 by omega)
  have d6 : ∀ j, decide (600 ≤ o + j) = true := fun j => decide_eq_true (by omega)
  unfold sp_huf sp_hlf
  by_cases c : m = 0
  · rw [if_pos c, if_pos c]
    refine ⟨J, ?_, ecv, by rw [eo0], fun x _ hx => hfr x hx⟩
    simp only [F_X6_hunts, ↓zka_eq k0, ↓zka_eq k5, ↓f4, ↓zb1_e, ↓zb2_e, ↓zlet_e, decide_eq_true h6, zg_true, ↓zb, hJ, c, not_true_eq_false, if_false]
  · rw [if_neg c, if_neg c]
    have hs0 : ¬ J (o + 1) f = 0 := by
      rw [eo 1 (by decide)]
      rw [zcv0 hf] at hm
      intro e
      rw [e] at hm
      exact c (i_ext (by unfold rg at hm; have : (0 : Int32).toInt = 0 := rfl; omega))
    have hs0' : (!(decide (J (o + 1) f = 0))) = true := by rw [decide_eq_false hs0]; rfl
    rw [zcv0 hf, zcv1 hf, zcv6 hb]
    rw [← eo 1 (by decide), ← eo 2 (by decide), ← eo 7 (by decide), ← ecv, ← eo0, ← eo 5 (by decide)]
    rw [← eo 5 (by decide)] at e4
    have eI5 : I (o + 5) b = nI f := by rw [← eo 5 (by decide)]; exact e4
    by_cases c2 : J (o + 2) f * m / J (o + 1) f ≤ 0
    · rw [if_pos c2]
      refine ⟨zu (zu (zu J (o + 1) f (J (o + 1) f - m)) (o + 2) f (J (o + 2) f - J (o + 2) f * m / J (o + 1) f)) (o + 7) b (zmin 9999 (J (o + 7) b + m)), ?_, ?_, ?_, ?_⟩
      · simp only [F_X6_hunts, ↓zka_eq k0, ↓zka_eq k1, ↓zka_eq k2, ↓zka_eq k5, ↓zka_eq k7, ↓f0, ↓f1, ↓f4, ↓f6, ↓zb1_e, ↓zb2_e, ↓zlet_e, decide_eq_true h6, zg_true, ↓zb, hJ, if_pos c, eI5, cb, ↓zf, cf, hs0', if_pos c2, d6, zu_off (show ¬ (o + 2 = o + 1 ∧ f = f) by omega), zu_off (show ¬ (o + 7 = o + 1 ∧ b = f) by omega), zu_off (show ¬ (o + 7 = o + 2 ∧ b = f) by omega)]
      · rw [zcvu6 hb, zcvu1 hf, zcvu0 hf]
      · rw [zu_off (by omega), zu_off (by omega), zu_off (by omega)]
      · intro x hx hx2
        rw [zu_row (by omega), zu_row (by omega), zu_row (by omega)]
        exact hfr x hx2
    · rw [if_neg c2]
      refine ⟨zu (zu (zu (zu J o 12 (nI f)) (o + 1) f (J (o + 1) f - m)) (o + 2) f (J (o + 2) f - J (o + 2) f * m / J (o + 1) f)) (o + 7) b (zmin 9999 (J (o + 7) b + m)), ?_, ?_, ?_, ?_⟩
      · simp only [F_X6_hunts, ↓zka_eq k0, ↓zka_eq k1, ↓zka_eq k2, ↓zka_eq k5, ↓zka_eq k7, ↓f0, ↓f1, ↓f4, ↓f6, ↓zb1_e, ↓zb2_e, ↓zlet_e, decide_eq_true h6, zg_true, ↓zb, hJ, if_pos c, eI5, cb, ↓zf, cf, hs0', if_neg c2, d6, zu_off (show ¬ (o + 2 = o + 1 ∧ f = f) by omega), zu_off (show ¬ (o + 7 = o + 1 ∧ b = f) by omega), zu_off (show ¬ (o + 7 = o + 2 ∧ b = f) by omega), zu_off (show ¬ (o + 1 = o ∧ f = 12) by omega), zu_off (show ¬ (o + 2 = o ∧ f = 12) by omega), zu_off (show ¬ (o + 7 = o ∧ b = 12) by omega)]
      · rw [zcvu6 hb, zcvu1 hf, zcvu0 hf, zcvu12]
      · rw [zu_off (by omega), zu_off (by omega), zu_off (by omega), zu_same, e4]
      · intro x hx hx2
        rw [zu_row (by omega), zu_row (by omega), zu_row (by omega), zu_row (by omega)]
        exact hfr x hx2
set_option maxHeartbeats 1000000 in
theorem F_pays_ok (hS : zSL K F o) (hL : zLL K F I a N P) (hp : pInv P) (ho : o + 10 ≤ a ∨ N ≤ o) {b : Nat} (hb : b < pnb P) : ∃ I', F_X6_pays K F o a (nI b) I = some I' ∧ zcv (pnf P) (pnb P) I' o = sp_pa P (zcv (pnf P) (pnb P) I o) b ∧ I' o 12 = I o 12 ∧ zfr o (a + 11) I I' := by
  obtain ⟨l1, l3, l4, l5, l6⟩ := hL.tax
  have hN : a + 12 ≤ N := hL.2.1
  obtain ⟨h6, k0, ⟨f0, f1, f2, f3, f4, f5, f6, f7, f8⟩, k1, k2, k3, k4, k5, k6, k7, k8, k9⟩ := hS
  have hnb := hp.2.1
  have zb := zin_n (show b < 6 by omega)
  have cb := nI_c (show b < 2147483648 by omega)
  have d6 : ∀ j, decide (600 ≤ o + j) = true := fun j => decide_eq_true (by omega)
  have ed : sp_due P (zcv (pnf P) (pnb P) I o) b = I a 0 * I (o + 6) b + I (o + 8) b := by unfold sp_due; rw [zcv5 hb, zcv7 hb, l4]
  have ep : sp_py P (zcv (pnf P) (pnb P) I o) b = zmin (I (o + 7) b) (I a 0 * I (o + 6) b + I (o + 8) b) := by unfold sp_py; rw [zcv6 hb, ed]
  have eo : sp_ow P (zcv (pnf P) (pnb P) I o) b = zmin 9999 ((I a 0 * I (o + 6) b + I (o + 8) b) - zmin (I (o + 7) b) (I a 0 * I (o + 6) b + I (o + 8) b)) := by unfold sp_ow; rw [ed, ep]
  have eh : sp_hf P (zcv (pnf P) (pnb P) I o) b = (zmin 9999 ((I a 0 * I (o + 6) b + I (o + 8) b) - zmin (I (o + 7) b) (I a 0 * I (o + 6) b + I (o + 8) b)) - I a 2) / 2 := by unfold sp_hf; rw [eo, l6]
  have ra : ∀ (J : zId) (j i : Nat) (v : Int32), j ≤ 9 → zu J (o + j) i v a = J a := fun J j i v hj => zu_row (by omega)
  have ra7 := fun J i v => ra J 7 i v (by decide)
  have ra8 := fun J i v => ra J 8 i v (by decide)
  have ra9 := fun J i v => ra J 9 i v (by decide)
  have ra0 : ∀ (J : zId) (i : Nat) (v : Int32), zu J o i v a = J a := fun J i v => zu_row (by omega)
  have ro : ∀ (J : zId) (i j k : Nat) (v : Int32), i ≠ j → zu J (o + i) k v (o + j) = J (o + j) := fun J i j k v h => zu_row (by omega)
  have ro1 : ∀ (J : zId) (i k : Nat) (v : Int32), i ≠ 0 → zu J (o + i) k v o = J o := fun J i k v h => zu_row (by omega)
  have ro2 : ∀ (J : zId) (i k : Nat) (v : Int32), i ≠ 0 → zu J o k v (o + i) = J (o + i) := fun J i k v h => zu_row (by omega)
  have ro3 : ∀ (J : zId) (k j : Nat) (v : Int32), k ≠ j → zu J o k v o j = J o j := fun J k j v h => zu_off (by omega)
  unfold sp_pa
  rw [eh, eo, ep, zcv6 hb, zcv8 hb, zcv91, zcv92, ← l6, ← l5]
  generalize hdu : I a 0 * I (o + 6) b + I (o + 8) b = du
  generalize hpy : zmin (I (o + 7) b) du = py
  generalize how : zmin 9999 (du - py) = ow
  by_cases c : I a 2 < ow
  · rw [if_pos c]
    refine ⟨zu (zu (zu (zu (zu (zu I (o + 7) b (I (o + 7) b - py)) o 10 (I o 10 + py)) (o + 8) b ow) o 11 (I o 11 + (ow - I a 2) / 2 * I a 1)) (o + 8) b (ow - (ow - I a 2) / 2)) (o + 9) b (I (o + 9) b + 1), ?_, ?_, ?_, ?_⟩
    · simp (decide := true) only [F_X6_pays, ↓zka_eq l3, ↓zka_eq k0, ↓zka_eq k6, ↓zka_eq k7, ↓zka_eq k8, ↓zka_eq k9, ↓f5, ↓f6, ↓f7, ↓f8, ↓zb1_e, ↓zlet_e, zb, d6, decide_eq_true h6, decide_eq_true l1, zg_true, cb, hdu, hpy, how, ra7, ra8, ra9, ra0, ro, ro1, ro2, ro3, zu_same, ne_eq, if_pos c]
    · rw [zcvu8 hb, zcvu7 hb, zcvu92, zcvu7 hb, zcvu91, zcvu6 hb]
    · rw [zu_off (by omega), zu_off (by omega), zu_off (by omega), zu_off (by omega), zu_off (by omega), zu_off (by omega)]
    · intro x hx hx2
      rw [zu_row (by omega), zu_row (by omega), zu_row (by omega), zu_row (by omega), zu_row (by omega), zu_row (by omega)]
  · rw [if_neg c]
    refine ⟨zu (zu (zu I (o + 7) b (I (o + 7) b - py)) o 10 (I o 10 + py)) (o + 8) b ow, ?_, ?_, ?_, ?_⟩
    · simp (decide := true) only [F_X6_pays, ↓zka_eq l3, ↓zka_eq k0, ↓zka_eq k6, ↓zka_eq k7, ↓zka_eq k8, ↓zka_eq k9, ↓f5, ↓f6, ↓f7, ↓f8, ↓zb1_e, ↓zlet_e, zb, d6, decide_eq_true h6, decide_eq_true l1, zg_true, cb, hdu, hpy, how, ra7, ra8, ra9, ra0, ro, ro1, ro2, ro3, zu_same, ne_eq, if_neg c]
    · rw [zcvu7 hb, zcvu91, zcvu6 hb]
    · rw [zu_off (by omega), zu_off (by omega), zu_off (by omega)]
    · intro x hx hx2
      rw [zu_row (by omega), zu_row (by omega), zu_row (by omega)]
end L06
