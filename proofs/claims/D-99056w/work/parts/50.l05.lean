/-! L05: a year keeps what is so of all states -/
section L05
variable {P : zP} {S : zS}
theorem i_0 : (0 : Int32).toInt = 0 := rfl
theorem i_1 : (1 : Int32).toInt = 1 := rfl
theorem i_9999 : (9999 : Int32).toInt = 9999 := rfl
theorem i_100 : (100 : Int32).toInt = 100 := rfl
theorem i_2 : (2 : Int32).toInt = 2 := rfl
theorem sp_tkf_rg {b f : Nat} (h : 0 ≤ (S 0 f).toInt) : rg (sp_tkf P S b f) 0 (S 0 f).toInt := by
  unfold sp_tkf rg
  split
  · rw [i_max, i_min, i_0]; omega
  · rw [i_0]; omega
theorem i_hunt {s bl m : Int} (h1 : 0 < s) (h2 : 0 ≤ bl) (h3 : bl ≤ s) (h4 : 0 ≤ m) (h5 : m ≤ s) : 0 ≤ bl * m / s ∧ bl * m / s ≤ bl ∧ bl + m - s ≤ bl * m / s := by
  have e1 : bl * m ≤ bl * s := Int.mul_le_mul_of_nonneg_left h5 h2
  have e2 : (bl + m - s) * s ≤ bl * m := by
    have := Int.mul_nonneg (show 0 ≤ s - bl by omega) (show 0 ≤ s - m by omega)
    simp only [Int.sub_mul, Int.mul_sub, Int.add_mul] at this ⊢
    rw [Int.mul_comm m s]
    omega
  exact ⟨Int.ediv_nonneg (Int.mul_nonneg h2 h4) (by omega), Int.ediv_le_of_le_mul h1 e1, Int.le_ediv_of_mul_le h1 e2⟩
theorem i_mulr {x y : Int32} {a b : Int} (hx : rg x 0 a) (hy : rg y 0 b) (h : a * b < 2147483648) (hb : 0 ≤ b) : (x * y).toInt = x.toInt * y.toInt ∧ 0 ≤ x.toInt * y.toInt ∧ x.toInt * y.toInt ≤ a * b := by
  have h1 := Int.mul_nonneg hx.1 hy.1
  have h2 : x.toInt * y.toInt ≤ a * b := Int.mul_le_mul hx.2 hy.2 hy.1 (Int.le_trans hx.1 hx.2)
  exact ⟨i_mul (by omega) (by omega), h1, h2⟩
theorem sInv_hu (hp : pInv P) (h : sInv P S) {b : Nat} (hb : b < pnb P) : sInv P (sp_hu P S b) := by
  obtain ⟨e4, hf⟩ := h.at' hp hb
  obtain ⟨r0, r1, r2⟩ := h.2 _ hf
  unfold sp_hu sp_huf
  have hm := sp_tkf_rg (P := P) (b := b) r0.1
  unfold sp_tk
  generalize sp_tkf P S b (sp_f S b) = m at hm
  generalize sp_f S b = f at *
  split
  · exact h
  rename_i m0
  have m0' : m.toInt ≠ 0 := fun e => m0 (i_ext e)
  unfold rg at hm r0 r1
  obtain ⟨em, em1, em2⟩ := i_mulr (x := S 1 f) (y := m) (a := 999) (b := 999) ⟨r1.1, by omega⟩ ⟨hm.1, by omega⟩ (by omega) (by omega)
  obtain ⟨q1, q2, q3⟩ := i_hunt (show 0 < (S 0 f).toInt by omega) r1.1 r1.2 hm.1 hm.2
  have ed : (S 1 f * m / S 0 f).toInt = (S 1 f).toInt * m.toInt / (S 0 f).toInt := by rw [i_div (by omega) (by omega), em]
  have e0 : (S 0 f - m).toInt = (S 0 f).toInt - m.toInt := i_sub (by omega) (by omega)
  have e1 : (S 1 f - S 1 f * m / S 0 f).toInt = (S 1 f).toInt - (S 1 f).toInt * m.toInt / (S 0 f).toInt := by rw [i_sub (by omega) (by omega), ed]
  have r6 := (h.1 b hb).2.2.2.1
  unfold rg at r6
  have e6 : (S 6 b + m).toInt = (S 6 b).toInt + m.toInt := i_add (by omega) (by omega)
  refine ⟨fun b' hb' => ?_, fun f' hf' => ?_⟩
  · obtain ⟨g1, g2, g3, g4, g5⟩ := h.1 b' hb'
    simp only [zu, show (4 : Nat) ≠ 6 from by decide, show (4 : Nat) ≠ 1 from by decide, show (4 : Nat) ≠ 0 from by decide, show (3 : Nat) ≠ 6 from by decide, show (3 : Nat) ≠ 1 from by decide, show (3 : Nat) ≠ 0 from by decide, show (5 : Nat) ≠ 6 from by decide, show (5 : Nat) ≠ 1 from by decide, show (5 : Nat) ≠ 0 from by decide, show (6 : Nat) ≠ 1 from by decide, show (6 : Nat) ≠ 0 from by decide, show (7 : Nat) ≠ 6 from by decide, show (7 : Nat) ≠ 1 from by decide, show (7 : Nat) ≠ 0 from by decide, false_and, if_false, true_and]
    refine ⟨g1, g2, g3, ?_, g5⟩
    unfold rg at g4 ⊢
    split
    · rw [i_min, e6, i_9999]; omega
    · exact g4
  · obtain ⟨g1, g2, g3⟩ := h.2 f' hf'
    simp only [zu, show (0 : Nat) ≠ 6 from by decide, show (0 : Nat) ≠ 1 from by decide, show (1 : Nat) ≠ 6 from by decide, show (1 : Nat) ≠ 0 from by decide, show (2 : Nat) ≠ 6 from by decide, show (2 : Nat) ≠ 1 from by decide, show (2 : Nat) ≠ 0 from by decide, false_and, if_false, true_and]
    unfold rg at *
    by_cases e : f' = f
    · simp only [e, if_true, e0, e1]
      rw [e] at g3
      omega
    · simp only [e, if_false]
      omega
theorem sp_due_i (hp : pInv P) (h : sInv P S) {b : Nat} (hb : b < pnb P) : rg (sp_due P S b) 0 10269 := by
  obtain ⟨-, g2, g3, g4, g5⟩ := h.1 b hb
  obtain ⟨-, -, t1, -, -, -, -⟩ := hp
  unfold sp_due
  obtain ⟨em, em1, em2⟩ := i_mulr t1 g3 (by omega) (by omega)
  unfold rg at *
  rw [i_add (by omega) (by omega), em]
  omega
theorem sInv_pa (hp : pInv P) (h : sInv P S) {b : Nat} (hb : b < pnb P) : sInv P (sp_pa P S b) := by
  have hd := sp_due_i hp h hb
  obtain ⟨g1, g2, g3, g4, g5⟩ := h.1 b hb
  have tl := hp.2.2.2.2.1
  unfold rg at hd g4 g5 tl
  have e1 : rg (sp_py P S b) 0 (min (S 6 b).toInt (sp_due P S b).toInt) := by unfold rg sp_py; rw [i_min]; omega
  unfold rg at e1
  have e2 : (sp_due P S b - sp_py P S b).toInt = (sp_due P S b).toInt - (sp_py P S b).toInt := i_sub (by omega) (by omega)
  have e3 : rg (sp_ow P S b) 0 9999 := by unfold rg sp_ow; rw [i_min, e2, i_9999]; omega
  have e4 : (S 6 b - sp_py P S b).toInt = (S 6 b).toInt - (sp_py P S b).toInt := i_sub (by omega) (by omega)
  unfold rg at e3
  have e5 : (sp_ow P S b - plim P).toInt = (sp_ow P S b).toInt - (plim P).toInt := i_sub (by omega) (by omega)
  unfold sp_pa
  by_cases hc : plim P < sp_ow P S b
  · rw [if_pos hc]
    have hc' := iL.mp hc
    have e6 : (sp_hf P S b).toInt = ((sp_ow P S b).toInt - (plim P).toInt) / 2 := by unfold sp_hf; rw [i_div (by omega) (by decide), e5, i_2]
    have e7 : (sp_ow P S b - sp_hf P S b).toInt = (sp_ow P S b).toInt - (sp_hf P S b).toInt := i_sub (by omega) (by omega)
    refine ⟨fun b' hb' => ?_, fun f' hf' => ?_⟩
    · obtain ⟨q1, q2, q3, q4, q5⟩ := h.1 b' hb'
      have z : ∀ r, r < 6 → ∀ {v1 v2 v3 v4 v5 v6 : Int32}, zu (zu (zu (zu (zu (zu S 6 b v1) 9 1 v2) 7 b v3) 9 2 v4) 7 b v5) 8 b v6 r b' = S r b' := fun r hr v1 v2 v3 v4 v5 v6 => by
        rw [zu_off (by omega), zu_off (by omega), zu_off (by omega), zu_off (by omega), zu_off (by omega), zu_off (by omega)]
      refine ⟨by rw [z 4 (by decide)]; exact q1, by rw [z 3 (by decide)]; exact q2, by rw [z 5 (by decide)]; exact q3, ?_, ?_⟩
      · rw [zu_off (by omega), zu_off (by omega), zu_off (by omega), zu_off (by omega), zu_off (by omega)]
        unfold zu rg at *
        split
        · rw [e4]; omega
        · exact q4
      · rw [zu_off (by omega)]
        by_cases e : b' = b
        · subst e
          rw [zu_same]
          unfold rg; rw [e7]; omega
        · rw [zu_off (by omega), zu_off (by omega), zu_off (by omega), zu_off (by omega), zu_off (by omega)]
          exact q5
    · have z : ∀ r, r < 6 → zu (zu (zu (zu (zu (zu S 6 b (S 6 b - sp_py P S b)) 9 1 (S 9 1 + sp_py P S b)) 7 b (sp_ow P S b)) 9 2 (S 9 2 + sp_hf P S b * pfox P)) 7 b (sp_ow P S b - sp_hf P S b)) 8 b (S 8 b + 1) r f' = S r f' := fun r hr => by
        rw [zu_off (by omega), zu_off (by omega), zu_off (by omega), zu_off (by omega), zu_off (by omega), zu_off (by omega)]
      rw [z 0 (by decide), z 1 (by decide), z 2 (by decide)]
      exact h.2 f' hf'
  · rw [if_neg hc]
    refine ⟨fun b' hb' => ?_, fun f' hf' => ?_⟩
    · obtain ⟨q1, q2, q3, q4, q5⟩ := h.1 b' hb'
      have z : ∀ r, r < 6 → ∀ {v1 v2 v3 : Int32}, zu (zu (zu S 6 b v1) 9 1 v2) 7 b v3 r b' = S r b' := fun r hr v1 v2 v3 => by
        rw [zu_off (by omega), zu_off (by omega), zu_off (by omega)]
      refine ⟨by rw [z 4 (by decide)]; exact q1, by rw [z 3 (by decide)]; exact q2, by rw [z 5 (by decide)]; exact q3, ?_, ?_⟩
      · rw [zu_off (by omega), zu_off (by omega)]
        unfold zu rg at *
        split
        · rw [e4]; omega
        · exact q4
      · by_cases e : b' = b
        · subst e
          rw [zu_same]
          exact e3
        · rw [zu_off (by omega), zu_off (by omega), zu_off (by omega)]
          exact q5
    · have z : ∀ r, r < 6 → zu (zu (zu S 6 b (S 6 b - sp_py P S b)) 9 1 (S 9 1 + sp_py P S b)) 7 b (sp_ow P S b) r f' = S r f' := fun r hr => by
        rw [zu_off (by omega), zu_off (by omega), zu_off (by omega)]
      rw [z 0 (by decide), z 1 (by decide), z 2 (by decide)]
      exact h.2 f' hf'
theorem sp_grn_rg (hp : pInv P) {f : Nat} (hf : f < pnf P) {m : Int32} (hm : rg m 0 999) : rg (sp_grn P f m) m.toInt 999 := by
  obtain ⟨h1, h2⟩ := hp.2.2.2.2.2.1 f hf
  obtain ⟨em, em1, em2⟩ := i_mulr hm h2 (by omega) (by omega)
  unfold rg at *
  have e1 : (m * pgr P f / 100).toInt = m.toInt * (pgr P f).toInt / 100 := by rw [i_div (by omega) (by decide), em, i_100]
  have e2 : (m + m * pgr P f / 100).toInt = m.toInt + m.toInt * (pgr P f).toInt / 100 := by rw [i_add (by omega) (by omega), e1]
  unfold sp_grn
  rw [i_max, i_min, e2]
  omega
theorem sInv_gr (hp : pInv P) (h : sInv P S) {f : Nat} (hf : f < pnf P) : sInv P (sp_gr P S f) := by
  obtain ⟨r0, r1, r2⟩ := h.2 f hf
  have hg := sp_grn_rg hp hf r0
  obtain ⟨-, h2⟩ := hp.2.2.2.2.2.1 f hf
  unfold rg at r0
  obtain ⟨em, em1, em2⟩ := i_mulr (x := S 1 f) (y := pgr P f) (a := 999) (b := 99) ⟨r1.1, by have := r1.2; omega⟩ h2 (by omega) (by omega)
  unfold rg at *
  have e1 : (S 1 f * pgr P f / 100).toInt = (S 1 f).toInt * (pgr P f).toInt / 100 := by rw [i_div (by omega) (by decide), em, i_100]
  have e2 : (S 1 f + S 1 f * pgr P f / 100).toInt = (S 1 f).toInt + (S 1 f).toInt * (pgr P f).toInt / 100 := by rw [i_add (by omega) (by omega), e1]
  have e3 : rg (if S 2 f ≤ 0 then S 2 f else S 2 f - 1) 0 50 := by
    unfold rg
    split
    · omega
    · rename_i hc
      have hc' := mt iLe.mpr hc
      rw [i_0] at hc'
      rw [i_sub (by rw [i_1]; omega) (by rw [i_1]; omega), i_1]
      omega
  unfold sp_gr
  refine ⟨fun b' hb' => ?_, fun f' hf' => ?_⟩
  · have z : ∀ r, 2 < r → ∀ {v1 v2 v3 : Int32}, zu (zu (zu S 0 f v1) 1 f v2) 2 f v3 r b' = S r b' := fun r hr v1 v2 v3 => by
      rw [zu_off (by omega), zu_off (by omega), zu_off (by omega)]
    rw [z 4 (by decide), z 3 (by decide), z 5 (by decide), z 6 (by decide), z 7 (by decide)]
    exact h.1 b' hb'
  · by_cases e : f' = f
    · subst e
      have z0 : ∀ {v1 v2 v3 : Int32}, zu (zu (zu S 0 f' v1) 1 f' v2) 2 f' v3 0 f' = v1 := by simp [zu]
      have z1 : ∀ {v1 v2 v3 : Int32}, zu (zu (zu S 0 f' v1) 1 f' v2) 2 f' v3 1 f' = v2 := by simp [zu]
      rw [z0, z1, zu_same]
      refine ⟨?_, ?_, e3⟩
      · unfold rg; omega
      · unfold rg; rw [i_min, e2]; omega
    · have z : ∀ r, ∀ {v1 v2 v3 : Int32}, zu (zu (zu S 0 f v1) 1 f v2) 2 f v3 r f' = S r f' := fun r v1 v2 v3 => by
        rw [zu_off fun q => e q.2, zu_off fun q => e q.2, zu_off fun q => e q.2]
      rw [z, z, z]
      exact h.2 f' hf'
theorem sInv_bs (hp : pInv P) (h : sInv P S) (lb : Int32) : ∀ n, n ≤ pnb P → sInv P (sp_bs P S lb n).1 := by
  intro n
  induction n with
  | zero => intro _; exact h
  | succ n ih =>
    intro hn
    have hb : n < pnb P := hn
    have h1 := ih (Nat.le_of_lt hn)
    have h2 := sInv_hu hp h1 hb
    rw [sp_bs]
    dsimp only
    exact sInv_pa hp h2 hb
theorem sInv_fs (hp : pInv P) (h : sInv P S) : ∀ n, n ≤ pnf P → sInv P (sp_fs P S n) := by
  intro n
  induction n with
  | zero => intro _; exact h
  | succ n ih =>
    intro hn
    have h1 := ih (Nat.le_of_lt hn)
    rw [sp_fs]
    exact sInv_gr hp h1 hn
theorem sInv_9 (h : sInv P S) (j : Nat) (v : Int32) : sInv P (zu S 9 j v) := by
  refine ⟨fun b' hb' => ?_, fun f' hf' => ?_⟩
  · have z : ∀ r, r < 9 → zu S 9 j v r b' = S r b' := fun r hr => zu_off (by omega)
    rw [z 4 (by decide), z 3 (by decide), z 5 (by decide), z 6 (by decide), z 7 (by decide)]
    exact h.1 b' hb'
  · have z : ∀ r, r < 9 → zu S 9 j v r f' = S r f' := fun r hr => zu_off (by omega)
    rw [z 0 (by decide), z 1 (by decide), z 2 (by decide)]
    exact h.2 f' hf'
theorem sInv_ye (hp : pInv P) (h : sInv P S) : sInv P (sp_ye P S) := by
  have h1 := sInv_bs hp h (-1) (pnb P) (Nat.le_refl _)
  have h2 := sInv_fs hp h1 (pnf P) (Nat.le_refl _)
  unfold sp_ye
  exact sInv_9 h2 _ _
end L05
