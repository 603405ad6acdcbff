/-! L19: forEver, blackest: the component; empty, lastBlack, resting, forEver, blackest: the model -/
def q_black (P : zP) (S : zS) : Int32 := (zbst (S 1) (pnf P)).1
theorem sp_br_0 {P : zP} {f : Nat} (hp : pInv P) (hf : f < pnf P) : ∀ n m, rg m 0 999 → sp_br P f (nI 0) n m = 1
  | 0, _, _ => rfl
  | n + 1, m, h => by
    have e : m - nI 0 = m := by
      apply i_ext
      rw [i_sub (by have := h.1; have := h.2; rw [show (nI 0).toInt = 0 from rfl]; omega) (by have := h.1; have := h.2; rw [show (nI 0).toInt = 0 from rfl]; omega), show (nI 0).toInt = 0 from rfl]
      omega
    have hg := sp_grn_rg hp hf h
    rw [sp_br, if_pos (iLe.mpr (by rw [show (nI 0).toInt = 0 from rfl]; exact h.1)), e]
    exact sp_br_0 hp hf n _ ⟨by have := hg.1; have := h.1; omega, hg.2⟩
theorem sp_br_no {P : zP} {f : Nat} {t m : Int32} {n : Nat} (h : m.toInt < t.toInt) : sp_br P f t (n + 1) m = 0 := by
  rw [sp_br, if_neg (mt iLe.mp (by omega))]
theorem sp_br_01 {P : zP} {f : Nat} {t : Int32} : ∀ n m, sp_br P f t n m = 0 ∨ sp_br P f t n m = 1
  | 0, _ => Or.inr rfl
  | n + 1, m => by
    rw [sp_br]
    split
    · exact sp_br_01 n _
    · exact Or.inl rfl
/-- one that is borne goes on -/
def sp_bk (P : zP) (f : Nat) (t m : Int32) : Nat → Int32
  | 0 => m
  | n + 1 => sp_grn P f (sp_bk P f t m n - t)
theorem sp_br_bk {P : zP} {f : Nat} {t m : Int32} : ∀ k n, (∀ j, j < k → t ≤ sp_bk P f t m j) → sp_br P f t (k + n) m = sp_br P f t n (sp_bk P f t m k) := by
  have key : ∀ k n m, (∀ j, j < k → t ≤ sp_bk P f t m j) → sp_br P f t (k + n) m = sp_br P f t n (sp_bk P f t m k) := by
    intro k
    induction k with
    | zero => intro n m _; rw [Nat.zero_add]; rfl
    | succ k ih =>
      intro n m h
      have e : ∀ j, sp_bk P f t (sp_grn P f (m - t)) j = sp_bk P f t m (j + 1) := by
        intro j
        induction j with
        | zero => rfl
        | succ j ih => rw [sp_bk, ih, ← sp_bk]
      rw [show k + 1 + n = (k + n) + 1 by omega, sp_br, if_pos (show t ≤ m from h 0 (by omega)), ih n _ fun j hj => by rw [e]; exact h (j + 1) (by omega), e]
  exact fun k n h => key k n m h
section L19a
variable {K : zKd} {F : zFd} {I : zId} {a N : Nat} {P : zP} {X : zXd}
theorem F_bears_ok (h : zCQ K F I a N P X) (hp : pInv P) {f : Nat} (hf : f < pnf P) (t : Int32) : F_X1_bears K F 1000 (nI f) t I = some (sp_br P f t 30 (zcv (pnf P) (pnb P) I 1014 0 f)) := by
  have hnf := hp.1
  obtain ⟨k0, ⟨f0, -, -, f3, f4, -⟩, -, ⟨hN, hT⟩, hL, -⟩ := h
  obtain ⟨l1, l2, l3, -, -, -, ⟨E, fo, g1, g2, g3⟩, -⟩ := hL
  obtain ⟨q1, q2, q3, q4, q5⟩ := g3 f hf
  rw [zcv0 hf]
  have s := zloop_up (body := fun s : Int32 × Int32 => F_X1_bears_L13 K F 1000 (nI f) t I s.1 s.2) (fun k s => s = (sp_bk P f t (I 1015 f) k, nI k) ∧ ∀ j, j < k → t ≤ sp_bk P f t (I 1015 f) j) (fun r => match r with | .inl _ => sp_br P f t 30 (I 1015 f) = 1 | .inr z => z = sp_br P f t 30 (I 1015 f)) 30 ?_ ?_ 0 (I 1015 f, 0) (Nat.zero_le _) ⟨rfl, fun j hj => by omega⟩
  · obtain ⟨r, s1, s2⟩ := s
    cases r with
    | inl u =>
      simp only [F_X1_bears, ↓zka_eq k0, decide_eq_true (show 600 ≤ 1000 by decide), decide_eq_true (show 600 ≤ 1014 by decide), zg_true, f3, zb1_e, ↓zka_eq hN.2.1, hN.2.2.1.1, ↓zka_eq hN.2.2.2.1, zin_n (show f < 8 by omega), nI_c (show f < 2147483648 by omega), zlet_e, s1, zs1]
      exact congrArg some s2.symm
    | inr z =>
      simp only [F_X1_bears, ↓zka_eq k0, decide_eq_true (show 600 ≤ 1000 by decide), decide_eq_true (show 600 ≤ 1014 by decide), zg_true, f3, zb1_e, ↓zka_eq hN.2.1, hN.2.2.1.1, ↓zka_eq hN.2.2.2.1, zin_n (show f < 8 by omega), nI_c (show f < 2147483648 by omega), zlet_e, s1, zs1]
      exact congrArg some s2
  · rintro i s hi30 ⟨rfl, e3⟩
    dsimp only
    by_cases c : t ≤ sp_bk P f t (I 1015 f) i
    · refine Or.inl ⟨(sp_bk P f t (I 1015 f) (i + 1), nI (i + 1)), ?_, rfl, fun j hj => ?_⟩
      · simp only [F_X1_bears_L13, if_neg (show ¬ (30 : Int32) ≤ nI i from nI_ge hi30 (by decide)), if_pos c, ↓zka_eq k0, ↓zka_eq l3, decide_eq_true (show 600 ≤ 1000 by decide), decide_eq_true l1, zg_true, f0, zb1_e, g1, ↓zka_eq g2.2.1, zAL_get g2 (by omega) hf q1, ↓zka_eq q3, F_X10_grown, decide_eq_true (show 600 ≤ fo f by omega), q4, q5, zlet_e, nI_1, sp_bk, sp_grn]
      · by_cases e : j = i
        · rw [e]; exact c
        · exact e3 j (by omega)
    · refine Or.inr ⟨.inr 0, ?_, ?_⟩
      · simp only [F_X1_bears_L13, if_neg (show ¬ (30 : Int32) ≤ nI i from nI_ge hi30 (by decide)), if_neg c]
      · have := sp_br_bk (P := P) (f := f) (t := t) (m := I 1015 f) i (30 - i) e3
        have e2 : sp_br P f t (30 - i) (sp_bk P f t (I 1015 f) i) = 0 := by rw [show 30 - i = (29 - i) + 1 by omega, sp_br, if_neg c]
        rw [show i + (30 - i) = 30 by omega, e2] at this
        exact this.symm
  · rintro s ⟨rfl, e3⟩
    exact ⟨.inl (), rfl, sp_br_bk 30 0 e3⟩
theorem F_ever_ok (h : zCQ K F I a N P X) (hp : pInv P) (hi : sInv P (zcv (pnf P) (pnb P) I 1014)) (x : Int32) : F_X1_forEver K F 1000 x I = some (qC (q_ever P (zcv (pnf P) (pnb P) I 1014) x), I) := by
  have hnf := hp.1
  have k0 := h.1
  unfold q_ever
  rcases zir_cases x (n := pnf P) (by omega) with ⟨f, hf, rfl⟩ | hx
  · rw [q_fa_ok hf (by omega)]
    obtain ⟨o, ho, -⟩ := F_forestAt_ok h hp hf
    have hb := fun t => F_bears_ok h hp hf t
    have s := zloop_dn (body := fun s : Int32 => F_X1_forEver_L10 K F 1000 (nI f) I s) (fun t => decide (sp_br P f (nI t) 30 (zcv (pnf P) (pnb P) I 1014 0 f) = 1)) 999 ?_ ?_ ?_
    · simp only [F_X1_forEver, ↓zka_eq k0, ho, zb2_e, zsum, zb1_e, qC]
      rw [show (999 : Int32) = nI 999 from rfl, s]
      rfl
    · intro k hk hpk
      have := of_decide_eq_true hpk
      simp only [F_X1_forEver_L10, ↓zka_eq k0, hb, zb1_e, this, if_pos (show ¬ (1 : Int32) = 0 by decide)]
    · intro k hk hpk
      have := (sp_br_01 (P := P) (f := f) (t := nI (k + 1)) 30 (zcv (pnf P) (pnb P) I 1014 0 f)).resolve_right (of_decide_eq_false hpk)
      have e : nI (k + 1) + -1 = nI k := by rw [← nI_pred k]; exact (Int32.sub_eq_add_neg _ _).symm
      simp only [F_X1_forEver_L10, ↓zka_eq k0, hb, zb1_e, this, not_true_eq_false, if_false, zlet_e, e]
    · exact decide_eq_true (sp_br_0 hp hf 30 _ (hi.2 f hf).1)
  · rw [q_fa_no hx]
    simp only [F_X1_forEver, ↓zka_eq k0, F_forestAt_no h hx, zb2_e, zsum, qC]
    rfl
theorem F_black_ok (h : zCQ K F I a N P X) (hp : pInv P) (hi : sInv P (zcv (pnf P) (pnb P) I 1014)) : F_X1_blackest K F 1000 I = some (q_black P (zcv (pnf P) (pnb P) I 1014)) := by
  have hnf := hp.1
  have hfo := F_forests_ok h
  obtain ⟨k0, ⟨f0, -, -, f3, f4, -⟩, -, ⟨hN, hT⟩, hL, -⟩ := h
  have hv : ∀ i, i < pnf P → zcv (pnf P) (pnb P) I 1014 1 i = I 1016 i := fun i hi => zcv1 hi
  have h0 : ∀ i, i < pnf P → 0 ≤ (I 1016 i).toInt := fun i h => by rw [← hv i h]; exact (hi.2 i h).2.1.1
  have hz : ∀ n, n ≤ pnf P → zbst (zcv (pnf P) (pnb P) I 1014 1) n = zbst (I 1016) n := by
    intro n
    induction n with
    | zero => intro _; rfl
    | succ n ih => intro hn; rw [zbst, zbst, ih (by omega), hv n (by omega)]
  unfold q_black
  rw [hz _ (Nat.le_refl _)]
  obtain ⟨hbp, -⟩ := zbst_bp (v := I 1016) (pnf P) (by omega) h0
  -- the loop goes down
  have key : ∀ k, k ≤ pnf P → ∀ b, zbp (I 1016) k (pnf P) b → ∃ b', zloop (fun s : Int32 × Int32 => F_X1_blackest_L9 K F 1000 I s.1 s.2) (b, nI k - 1) = some b' ∧ zbp (I 1016) 0 (pnf P) b' := by
    intro k
    induction k with
    | zero =>
      intro _ b hb
      refine ⟨b, zloop_end ?_, hb⟩
      dsimp only
      simp only [F_X1_blackest_L9, if_pos (show nI 0 - 1 < 0 by decide)]
    | succ k ih =>
      intro hk b hb
      have e : nI k + -1 = nI k - 1 := (Int32.sub_eq_add_neg _ _).symm
      rw [nI_pred]
      have hstep : ∃ b1, F_X1_blackest_L9 K F 1000 I b (nI k) = some (.inl (b1, nI k - 1)) ∧ zbp (I 1016) k (pnf P) b1 := by
        have hf1 := hN.2.2.1.2.1
        have hk2 := hN.2.2.2.2.1
        by_cases c0 : I 1016 k = 0
        · refine ⟨b, ?_, ?_⟩
          · simp only [F_X1_blackest_L9, if_neg (nI_pos (show k < 2 ^ 31 by omega)), ↓zka_eq k0, decide_eq_true (show 600 ≤ 1000 by decide), decide_eq_true (show 600 ≤ 1014 by decide), zg_true, f3, zb1_e, ↓zka_eq hN.2.1, hf1, ↓zka_eq hk2, zin_n (show k < 8 by omega), nI_c (show k < 2147483648 by omega), c0, not_true_eq_false, if_false, zlet_e, e]
          · rcases hb with ⟨rfl, z⟩ | ⟨j, a1, a2, rfl, a3, a4, a5⟩
            · refine Or.inl ⟨rfl, fun i h1 h2 => ?_⟩
              by_cases e2 : i = k
              · rw [e2]; exact c0
              · exact z i (by omega) h2
            · have hj := h0 j a2
              have hj0 : (I 1016 j).toInt ≠ 0 := fun q => a3 (i_ext q)
              refine Or.inr ⟨j, by omega, a2, rfl, a3, fun i h1 h2 => ?_, fun i h1 h2 => ?_⟩
              · by_cases e2 : i = k
                · rw [e2, c0, i_0]; exact hj
                · exact a4 i (by omega) h2
              · by_cases e2 : i = k
                · rw [e2, c0, i_0]; omega
                · exact a5 i (by omega) h2
        · have hk0 := h0 k (by omega)
          rcases hb with ⟨rfl, z⟩ | ⟨j, a1, a2, rfl, a3, a4, a5⟩
          · refine ⟨nI k, ?_, Or.inr ⟨k, Nat.le_refl _, by omega, rfl, c0, fun i h1 h2 => ?_, fun i h1 h2 => by omega⟩⟩
            · simp only [F_X1_blackest_L9, if_neg (nI_pos (show k < 2 ^ 31 by omega)), ↓zka_eq k0, decide_eq_true (show 600 ≤ 1000 by decide), decide_eq_true (show 600 ≤ 1014 by decide), zg_true, f3, zb1_e, ↓zka_eq hN.2.1, hf1, ↓zka_eq hk2, zin_n (show k < 8 by omega), nI_c (show k < 2147483648 by omega), c0, not_false_eq_true, if_true, zlet_e, e]
            · by_cases e2 : i = k
              · rw [e2]; exact Int.le_refl _
              · rw [z i (by omega) h2, i_0]; exact hk0
          · have n1 := nI_m1 (show j < 2147483647 by omega)
            by_cases c1 : I 1016 k < I 1016 j
            · refine ⟨nI j, ?_, Or.inr ⟨j, by omega, a2, rfl, a3, fun i h1 h2 => ?_, fun i h1 h2 => ?_⟩⟩
              · simp only [F_X1_blackest_L9, if_neg (nI_pos (show k < 2 ^ 31 by omega)), ↓zka_eq k0, decide_eq_true (show 600 ≤ 1000 by decide), decide_eq_true (show 600 ≤ 1014 by decide), zg_true, f3, zb1_e, ↓zka_eq hN.2.1, hf1, ↓zka_eq hk2, zin_n (show k < 8 by omega), nI_c (show k < 2147483648 by omega), c0, not_false_eq_true, if_true, if_neg n1, zin_n (show j < 8 by omega), nI_c (show j < 2147483648 by omega), if_pos c1, zlet_e, e]
              · by_cases e2 : i = k
                · rw [e2]; have := iL.mp c1; omega
                · exact a4 i (by omega) h2
              · by_cases e2 : i = k
                · rw [e2]; exact iL.mp c1
                · exact a5 i (by omega) h2
            · have c1' := mt iL.mpr c1
              refine ⟨nI k, ?_, Or.inr ⟨k, Nat.le_refl _, by omega, rfl, c0, fun i h1 h2 => ?_, fun i h1 h2 => by omega⟩⟩
              · simp only [F_X1_blackest_L9, if_neg (nI_pos (show k < 2 ^ 31 by omega)), ↓zka_eq k0, decide_eq_true (show 600 ≤ 1000 by decide), decide_eq_true (show 600 ≤ 1014 by decide), zg_true, f3, zb1_e, ↓zka_eq hN.2.1, hf1, ↓zka_eq hk2, zin_n (show k < 8 by omega), nI_c (show k < 2147483648 by omega), c0, not_false_eq_true, if_true, if_neg n1, zin_n (show j < 8 by omega), nI_c (show j < 2147483648 by omega), if_neg c1, zlet_e, e]
              · by_cases e2 : i = k
                · rw [e2]; exact Int.le_refl _
                · have := a4 i (by omega) h2; omega
      obtain ⟨b1, g1, g2⟩ := hstep
      obtain ⟨b', g3, g4⟩ := ih (by omega) b1 g2
      exact ⟨b', by rw [zloop_step (s' := (b1, nI k - 1)) g1]; exact g3, g4⟩
  obtain ⟨b', g1, g2⟩ := key (pnf P) (Nat.le_refl _) (-1) (Or.inl ⟨rfl, fun i h1 h2 => by omega⟩)
  simp only [F_X1_blackest, ↓zka_eq k0, hfo, zb1_e, zlet_e, g1]
  rw [zbp_u g2 hbp]
end L19a
