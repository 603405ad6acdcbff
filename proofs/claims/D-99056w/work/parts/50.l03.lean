/-! L03: the component's State goes as the law of L02 has it -/
/-- an ArrayList lst of n objects, its table E -/
def zAL (K : zKd) (F : zFd) (I : zId) (lst E n : Nat) : Prop := 600 ≤ lst ∧ K lst = some (2, 0) ∧ F lst 1 = some E ∧ (∃ cap, K E = some (68, cap) ∧ n ≤ cap) ∧ I lst 2 = nI n
/-- the land a, its numbers below N: what states need of it; Ef: the table of the forests -/
def zLL (K : zKd) (F : zFd) (I : zId) (a N : Nat) (P : zP) : Prop :=
  600 ≤ a ∧ a + 12 ≤ N ∧ K a = some (1, 0) ∧ I a 0 = ptax P ∧ I a 1 = pfox P ∧ I a 2 = plim P ∧
  (∃ (E : Nat) (fo : Nat → Nat), F a 4 = some (a + 1) ∧ zAL K F I (a + 1) E (pnf P) ∧ ∀ f, f < pnf P → F E f = some (fo f) ∧ (a ≤ fo f ∧ fo f < N ∧ fo f ≠ a + 11) ∧ K (fo f) = some (9, 0) ∧ I (fo f) 2 = prm P f ∧ I (fo f) 3 = pgr P f) ∧
  (∃ E : Nat, F a 5 = some (a + 3) ∧ zAL K F I (a + 3) E (pnb P)) ∧
  (F a 10 = some (a + 9) ∧ K (a + 9) = some (3, 0) ∧ F (a + 9) 0 = some (a + 11) ∧ K (a + 11) = some (64, 7)) ∧
  (∀ i, i < 7 → K (10 + i) = some (21, i)) ∧
  (phv P = none → F a 9 = none) ∧ (∀ h, phv P = some h → ∃ e, F a 9 = some e ∧ ∀ (K' : zKd) (F' : zFd) (I' : zId), (∀ x, (x < 600 ∨ (a ≤ x ∧ x < N)) → K' x = K x ∧ F' x = F x) → (∀ x, a ≤ x → x < N → x ≠ a + 11 → I' x = I x) → F_by 1000 K' F' e (a + 9) I' = some (h (I' (a + 11))))
theorem zAL.cg {K : zKd} {F : zFd} {I I' : zId} {lst E n : Nat} (h : zAL K F I lst E n) (e : I' lst = I lst) : zAL K F I' lst E n := ⟨h.1, h.2.1, h.2.2.1, h.2.2.2.1, by rw [e]; exact h.2.2.2.2⟩
theorem zLL.cg {K : zKd} {F : zFd} {I I' : zId} {a N : Nat} {P : zP} (h : zLL K F I a N P) (e : ∀ x, a ≤ x → x < N → x ≠ a + 11 → I' x = I x) : zLL K F I' a N P := by
  obtain ⟨h1, h2, h3, h4, h5, h6, ⟨E, fo, g1, g2, g3⟩, ⟨E2, g4, g5⟩, h8, h9, h10, h11⟩ := h
  have ea : I' a = I a := e a (Nat.le_refl _) (by omega) (by omega)
  refine ⟨h1, h2, h3, by rw [ea]; exact h4, by rw [ea]; exact h5, by rw [ea]; exact h6, ⟨E, fo, g1, g2.cg (e _ (by omega) (by omega) (by omega)), fun f hf => ?_⟩, ⟨E2, g4, g5.cg (e _ (by omega) (by omega) (by omega))⟩, h8, h9, h10, fun hh hp => ?_⟩
  · obtain ⟨q1, q2, q3, q4, q5⟩ := g3 f hf
    have := e _ q2.1 q2.2.1 q2.2.2
    exact ⟨q1, q2, q3, by rw [this]; exact q4, by rw [this]; exact q5⟩
  · obtain ⟨e0, q1, q2⟩ := h11 hh hp
    exact ⟨e0, q1, fun K' F' J hKF hJ => q2 K' F' J hKF fun x x1 x2 x3 => (hJ x x1 x2 x3).trans (e x x1 x2 x3)⟩
section L03
variable {K : zKd} {F : zFd} {I : zId} {a N o : Nat} {P : zP}
theorem zAL_size {lst E n : Nat} (h : zAL K F I lst E n) : F_J2_size K F lst I = some (nI n) := by
  obtain ⟨h1, h2, h3, h4, h5⟩ := h
  simp only [F_J2_size, ↓zka_eq h2, decide_eq_true h1, zg_true, h5]
theorem zAL_get {lst E n j x : Nat} (h : zAL K F I lst E n) (hn : n < 2147483648) (hj : j < n) (hx : F E j = some x) : F_J2_get K F lst (nI j) I = some (some x) := by
  obtain ⟨h1, h2, h3, ⟨cap, h4, h4'⟩, h5⟩ := h
  have hz : zin (nI j) cap = true := by
    simp only [zin, nI_c (show j < 2147483648 by omega), Bool.and_eq_true, Bool.not_eq_true', decide_eq_false_iff_not, decide_eq_true_eq]
    exact ⟨nI_pos (by omega), by omega⟩
  simp only [F_J2_get, F_J19_checkIndex, F_J14_checkIndex, F_J2_elementData, ↓zka_eq h2, ↓zka_eq h4, decide_eq_true h1, zg_true, h5, if_neg (nI_pos (show j < 2 ^ 31 by omega)), if_pos (nI_lt hj (show n < 2 ^ 31 by omega)), zb1_e, h3, hz, nI_c (show j < 2147483648 by omega), hx]
/-- a store that differs in the state o and in the view v alone -/
def zfr (o v : Nat) (I I' : zId) : Prop := ∀ x, (x < o ∨ o + 9 < x) → x ≠ v → I' x = I x
theorem zfr.tr {o v : Nat} {I J L : zId} (h1 : zfr o v I J) (h2 : zfr o v J L) : zfr o v I L := fun x a b => (h2 x a b).trans (h1 x a b)
theorem zfr.ll {I' : zId} (hL : zLL K F I a N P) (h : zfr o (a + 11) I I') (ho : o + 10 ≤ a ∨ N ≤ o) : zLL K F I' a N P := hL.cg fun x h1 h2 h3 => h x (by omega) h3
theorem F_others_ok (hS : zSL K F o) (hL : zLL K F I a N P) (hp : pInv P) {b : Nat} (hb : b < pnb P) : F_X6_others K F o a (nI b) I = some (sp_oth (pnb P) (zcv (pnf P) (pnb P) I o) b) := by
  obtain ⟨h6, k0, ⟨f0, f1, f2, f3, f4, f5, f6, f7, f8⟩, k1, k2, k3, k4, k5, k6, k7, k8, k9⟩ := hS
  obtain ⟨l1, l2, l3, l4, l5, l6, -, ⟨E2, g4, g5⟩, -, -, -, -⟩ := hL
  have hnb := hp.2.1
  have hsz := zAL_size g5
  have s := zloop_up (body := fun s : Int32 × Int32 => F_X6_others_L5 K F o a (nI b) I s.1 s.2) (fun i s => s = (zcn (fun k => decide (k ≠ b) && decide (zcv (pnf P) (pnb P) I o 4 k = zcv (pnf P) (pnb P) I o 4 b)) i, nI i)) (fun t => t = sp_oth (pnb P) (zcv (pnf P) (pnb P) I o) b) (pnb P) ?_ ?_ 0 (0, 0) (Nat.zero_le _) rfl
  · obtain ⟨t, h1, rfl⟩ := s
    simp only [F_X6_others, h1, zb1_e]
  · intro i s hi e
    subst e
    refine Or.inl ?_
    have hib : (nI i = nI b) ↔ i = b := nI_eq (by omega) (by omega)
    simp only [F_X6_others_L5, ↓zka_eq l3, ↓zka_eq k0, decide_eq_true l1, decide_eq_true h6, zg_true, g4, zb1_e, ↓zka_eq g5.2.1, hsz, if_neg (nI_ge hi (show pnb P < 2 ^ 31 by omega)), f4, ↓zka_eq k5, zin_n (show i < 6 by omega), zin_n (show b < 6 by omega), nI_c (show i < 2147483648 by omega), nI_c (show b < 2147483648 by omega), zlet_e, nI_1, hib]
    by_cases e1 : i = b
    · refine ⟨_, if_pos e1, ?_⟩
      simp [zcn, e1]
    · rw [if_neg e1]
      simp only [zcn, zcv4 hi, zcv4 hb, e1]
      by_cases e2 : I (o + 5) i = I (o + 5) b
      · refine ⟨_, if_neg (fun h => h e2), ?_⟩
        simp [e2, e1]
      · refine ⟨_, if_pos e2, ?_⟩
        simp [e2]
  · intro s e
    subst e
    simp only [F_X6_others_L5, ↓zka_eq l3, decide_eq_true l1, zg_true, g4, zb1_e, ↓zka_eq g5.2.1, hsz, if_pos (nI_le (Nat.le_refl _) (show pnb P < 2 ^ 31 by omega))]
    exact ⟨_, rfl, rfl⟩
theorem F_sees_ok (hL : zLL K F I a N P) {J : zId} {i : Nat} (hi : i < 7) (x : Int32) : F_X3_sees K F (a + 9) (10 + i) x J = some (zu J (a + 11) i x) := by
  obtain ⟨l1, l2, l3, l4, l5, l6, -, -, ⟨v1, v2, v3, v4⟩, hv, -, -⟩ := hL
  simp only [F_X3_sees, ↓zka_eq v2, decide_eq_true (show 600 ≤ a + 9 by omega), zg_true, v3, zb1_e, ↓zka_eq (hv i hi), decide_eq_true (show 10 + i < 600 by omega), ↓zka_eq v4, zin_n hi, decide_eq_true (show 600 ≤ a + 11 by omega), nI_c (show i < 2147483648 by omega), zlet_e]
end L03
