/-! L13: like; the component's parts, as a query sees them -/
theorem zcp_hit {I : zId} {s d n b : Nat} (h : b < n) : zcpy I s 0 d 0 n d b = I s b := by
  unfold zcpy
  rw [if_pos ⟨rfl, Nat.zero_le _, by omega⟩]
  simp
theorem zcp_off {I : zId} {s d n a : Nat} (h : a ≠ d) : zcpy I s 0 d 0 n a = I a := by
  funext b
  unfold zcpy
  rw [if_neg fun q => h q.1]
theorem zcp_hi {I : zId} {s d n b : Nat} (h : n ≤ b) : zcpy I s 0 d 0 n d b = I d b := by
  unfold zcpy
  rw [if_neg fun q => by omega]
def zlkA (I : zId) (d s : Nat) : zId := zcpy (zcpy (zcpy (zcpy (zcpy (zcpy (zcpy (zcpy (zcpy I (s + 1) 0 (d + 1) 0 8) (s + 2) 0 (d + 2) 0 8) (s + 3) 0 (d + 3) 0 8) (s + 4) 0 (d + 4) 0 6) (s + 5) 0 (d + 5) 0 6) (s + 6) 0 (d + 6) 0 6) (s + 7) 0 (d + 7) 0 6) (s + 8) 0 (d + 8) 0 6) (s + 9) 0 (d + 9) 0 6
def zlk (I : zId) (d s : Nat) : zId := zu (zu (zu (zlkA I d s) d 9 (I s 9)) d 10 (I s 10)) d 11 (I s 11)
section L13
variable {K : zKd} {F : zFd} {I : zId} {d s : Nat}
theorem zlkA_off {x : Nat} (h : x ≤ d ∨ d + 9 < x) : zlkA I d s x = I x := by
  unfold zlkA
  rw [zcp_off (by omega), zcp_off (by omega), zcp_off (by omega), zcp_off (by omega), zcp_off (by omega), zcp_off (by omega), zcp_off (by omega), zcp_off (by omega), zcp_off (by omega)]
theorem zlk_off {x : Nat} (h : x < d ∨ d + 9 < x) : zlk I d s x = I x := by
  unfold zlk
  rw [zu_row (by omega), zu_row (by omega), zu_row (by omega)]
  exact zlkA_off (by omega)
theorem zlk_row {r j : Nat} (hr : r < 9) (hj : j < if r < 3 then 8 else 6) (hd : d + 10 ≤ s ∨ s + 10 ≤ d) : zlk I d s (d + 1 + r) j = I (s + 1 + r) j := by
  unfold zlk
  rw [zu_row (by omega), zu_row (by omega), zu_row (by omega)]
  unfold zlkA
  match r, hr with
  | 0, _ => rw [zcp_off (by omega), zcp_off (by omega), zcp_off (by omega), zcp_off (by omega), zcp_off (by omega), zcp_off (by omega), zcp_off (by omega), zcp_off (by omega), zcp_hit (n := 8) (show j < 8 from hj)]
  | 1, _ => rw [zcp_off (by omega), zcp_off (by omega), zcp_off (by omega), zcp_off (by omega), zcp_off (by omega), zcp_off (by omega), zcp_off (by omega), zcp_hit (n := 8) (show j < 8 from hj), zcp_off (by omega)]
  | 2, _ => rw [zcp_off (by omega), zcp_off (by omega), zcp_off (by omega), zcp_off (by omega), zcp_off (by omega), zcp_off (by omega), zcp_hit (n := 8) (show j < 8 from hj), zcp_off (by omega), zcp_off (by omega)]
  | 3, _ => rw [zcp_off (by omega), zcp_off (by omega), zcp_off (by omega), zcp_off (by omega), zcp_off (by omega), zcp_hit (n := 6) (show j < 6 from hj), zcp_off (by omega), zcp_off (by omega), zcp_off (by omega)]
  | 4, _ => rw [zcp_off (by omega), zcp_off (by omega), zcp_off (by omega), zcp_off (by omega), zcp_hit (n := 6) (show j < 6 from hj), zcp_off (by omega), zcp_off (by omega), zcp_off (by omega), zcp_off (by omega)]
  | 5, _ => rw [zcp_off (by omega), zcp_off (by omega), zcp_off (by omega), zcp_hit (n := 6) (show j < 6 from hj), zcp_off (by omega), zcp_off (by omega), zcp_off (by omega), zcp_off (by omega), zcp_off (by omega)]
  | 6, _ => rw [zcp_off (by omega), zcp_off (by omega), zcp_hit (n := 6) (show j < 6 from hj), zcp_off (by omega), zcp_off (by omega), zcp_off (by omega), zcp_off (by omega), zcp_off (by omega), zcp_off (by omega)]
  | 7, _ => rw [zcp_off (by omega), zcp_hit (n := 6) (show j < 6 from hj), zcp_off (by omega), zcp_off (by omega), zcp_off (by omega), zcp_off (by omega), zcp_off (by omega), zcp_off (by omega), zcp_off (by omega)]
  | 8, _ => rw [zcp_hit (n := 6) (show j < 6 from hj), zcp_off (by omega), zcp_off (by omega), zcp_off (by omega), zcp_off (by omega), zcp_off (by omega), zcp_off (by omega), zcp_off (by omega), zcp_off (by omega)]
  | r + 9, h => omega
theorem zlk_cv {nf nb : Nat} (hf : nf ≤ 8) (hb : nb ≤ 6) (hd : d + 10 ≤ s ∨ s + 10 ≤ d) : zcv nf nb (zlk I d s) d = zcv nf nb I s := by
  funext r j
  unfold zcv
  by_cases hj : j < zlm nf nb r
  · rw [if_pos hj, if_pos hj]
    by_cases c : r < 9
    · rw [if_pos c, if_pos c]
      refine zlk_row c ?_ hd
      unfold zlm at hj
      split
      · rename_i h; rw [if_pos h] at hj; omega
      · rename_i h; rw [if_neg h, if_pos c] at hj; omega
    · rw [if_neg c, if_neg c]
      have : j < 3 := by
        unfold zlm at hj
        rw [if_neg (by omega), if_neg c] at hj
        split at hj
        · exact hj
        · omega
      unfold zlk zu
      match j, this with
      | 0, _ => simp
      | 1, _ => simp
      | 2, _ => simp
      | j + 3, h => omega
  · rw [if_neg hj, if_neg hj]
set_option maxHeartbeats 1000000 in
theorem F_like_ok (hD : zSL K F d) (hS : zSL K F s) (hd : d + 10 ≤ s ∨ s + 10 ≤ d) : F_X6_like K F d s I = some (zlk I d s) := by
  obtain ⟨d6, k0, ⟨f0, f1, f2, f3, f4, f5, f6, f7, f8⟩, k1, k2, k3, k4, k5, k6, k7, k8, k9⟩ := hD
  obtain ⟨e6, m0, ⟨g0, g1, g2, g3, g4, g5, g6, g7, g8⟩, m1, m2, m3, m4, m5, m6, m7, m8, m9⟩ := hS
  have dd : ∀ j, decide (600 ≤ d + j) = true := fun j => decide_eq_true (by omega)
  have ds : ∀ j, decide (600 ≤ s + j) = true := fun j => decide_eq_true (by omega)
  have c8 : zcpok 0 0 8 8 8 = true := by decide
  have c6 : zcpok 0 0 6 6 6 = true := by decide
  have e : F_X6_like K F d s I = some (zu (zu (zu (zlkA I d s) d 9 (zlkA I d s s 9)) d 10 (zu (zlkA I d s) d 9 (zlkA I d s s 9) s 10)) d 11 (zu (zu (zlkA I d s) d 9 (zlkA I d s s 9)) d 10 (zu (zlkA I d s) d 9 (zlkA I d s s 9) s 10) s 11)) := by
    simp only [F_X6_like, ↓zka_eq k0, ↓zka_eq k1, ↓zka_eq k2, ↓zka_eq k3, ↓zka_eq k4, ↓zka_eq k5, ↓zka_eq k6, ↓zka_eq k7, ↓zka_eq k8, ↓zka_eq k9, ↓zka_eq m0, ↓zka_eq m1, ↓zka_eq m2, ↓zka_eq m3, ↓zka_eq m4, ↓zka_eq m5, ↓zka_eq m6, ↓zka_eq m7, ↓zka_eq m8, ↓zka_eq m9, ↓f0, ↓f1, ↓f2, ↓f3, ↓f4, ↓f5, ↓f6, ↓f7, ↓f8, ↓g0, ↓g1, ↓g2, ↓g3, ↓g4, ↓g5, ↓g6, ↓g7, ↓g8, ↓zb1_e, ↓zlet_e, dd, ds, decide_eq_true d6, decide_eq_true e6, zg_true, c8, c6, zlkA]
  have z : zlkA I d s s = I s := zlkA_off (by omega)
  rw [e, zu_row (show s ≠ d by omega), zu_row (show s ≠ d by omega), zu_row (show s ≠ d by omega), z]
  rfl
end L13
