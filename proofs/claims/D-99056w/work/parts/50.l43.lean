/-! L43: a Book like another -/
/-- two tables below and above each other -/
def zds (d s : Nat) : Prop := d + 417 ≤ s ∨ s + 417 ≤ d
section L43
variable {K : zKd} {F : zFd} {I : zId} {nf nb d s : Nat} {od os : Nat → Nat} {b : zBk}
theorem F_ones_like (hD : zBL K F d) (hS : zBL K F s) (ho : zBO F d od) (ho' : zBO F s os) (hd : zds d s) {J : zId} {k : Nat} (hk : k < 40) : F_X6_like K F (d + 17 + 10 * od k) (s + 17 + 10 * os k) J = some (zlk J (d + 17 + 10 * od k) (s + 17 + 10 * os k)) := by
  have h1 := (ho.1 k hk).1
  have h2 := (ho'.1 k hk).1
  unfold zds at hd
  exact F_like_ok (hD.2.2.2.2.2.2 _ h1) (hS.2.2.2.2.2.2 _ h2) (by omega)
set_option maxHeartbeats 1000000 in
theorem F5_like_ok (hf : nf ≤ 8) (hb : nb ≤ 6) (hD : zBL K F d) (hS : zBL K F s) (ho : zBO F d od) (ho' : zBO F s os) (hd : zds d s) (hV : zBV nf nb I s os b) (hl : I (d + 11) 2 = nI 40) (h8 : (bSp b).1 ≤ 8) : ∃ J, F_X5_like K F d s I = some J ∧ zBV nf nb J d od b ∧ ∀ x, (x < d ∨ d + 416 < x) → J x = I x := by
  have hds := hd
  unfold zds at hds
  obtain ⟨v1, v2, ⟨v3, v4⟩, v5, ⟨v6, v6b⟩, v7⟩ := hV
  obtain ⟨d6, kD, ⟨d0, d1, d2, d3, d4, d5⟩, dS, ⟨dl1, dl2, dl3⟩, ⟨dk1, dk2, dk3, dk4⟩, dst⟩ := id hD
  obtain ⟨s6, kS, ⟨s0, s1, s2, s3, s4, s5⟩, sS, ⟨sl1, sl2, sl3⟩, ⟨sk1, sk2, sk3, sk4⟩, sst⟩ := id hS
  have dd := decide_eq_true d6
  have ds := decide_eq_true s6
  have hlk := F_like_ok (I := I) dS sS (by omega)
  let I0 := zlk I (d + 1) (s + 1)
  have hI0 : ∀ x, (x < d + 1 ∨ d + 10 < x) → I0 x = I x := fun x hx => zlk_off (by omega)
  have s' := zloop_up (body := fun t : Int32 × zId => F_X5_like_L13 K F d s t.1 t.2) (fun i t => t.1 = nI i ∧ (∀ x, (x < d + 1 ∨ d + 416 < x ∨ (d + 11 ≤ x ∧ x < d + 17)) → t.2 x = I x) ∧ zcv nf nb t.2 (d + 1) = bS b ∧ ∀ k, k < i → zcv nf nb t.2 (d + 17 + 10 * od k) = bP b k) (fun t => (∀ x, (x < d + 1 ∨ d + 416 < x ∨ (d + 11 ≤ x ∧ x < d + 17)) → t x = I x) ∧ zcv nf nb t (d + 1) = bS b ∧ ∀ k, k < bA b → zcv nf nb t (d + 17 + 10 * od k) = bP b k) (bA b) ?_ ?_ 0 (0, I0) (Nat.zero_le _) ⟨rfl, fun x hx => hI0 x (by omega), by rw [zlk_cv hf hb (by omega)]; exact v2, fun k hk => absurd hk (Nat.not_lt_zero k)⟩
  · obtain ⟨J0, w1, w2, w3, w4⟩ := s'
    let J1 := zcpy J0 (s + 13) 0 (d + 13) 0 8
    let J2 := zcpy J1 (s + 14) 0 (d + 14) 0 8
    let J3 := zcpy J2 (s + 15) 0 (d + 15) 0 8
    let J4 := zcpy J3 (s + 16) 0 (d + 16) 0 3
    let J5 := zu J4 d 6 (J4 s 6)
    let J6 := zu J5 d 7 (J5 s 7)
    have r4 : ∀ x, x ≠ d + 13 → x ≠ d + 14 → x ≠ d + 15 → x ≠ d + 16 → J4 x = J0 x := fun x p1 p2 p3 p4 => by
      show zcpy (zcpy (zcpy (zcpy J0 _ _ _ _ _) _ _ _ _ _) _ _ _ _ _) _ _ _ _ _ x = _
      rw [zcp_off p4, zcp_off p3, zcp_off p2, zcp_off p1]
    have r6 : ∀ x, x ≠ d → x ≠ d + 13 → x ≠ d + 14 → x ≠ d + 15 → x ≠ d + 16 → J6 x = J0 x := fun x p0 p1 p2 p3 p4 => by
      show zu (zu J4 _ _ _) _ _ _ x = _
      rw [zu_row p0, zu_row p0, r4 x p1 p2 p3 p4]
    have j4s : J4 s = I s := by rw [r4 s (by omega) (by omega) (by omega) (by omega), w2 s (by omega)]
    have j5s : J5 s = I s := by
      show zu J4 _ _ _ s = _
      rw [zu_row (by omega)]
      exact j4s
    refine ⟨J6, ?_, ⟨?_, ?_, ⟨?_, v4⟩, fun k hk => ?_, ⟨?_, fun k hk => ?_⟩, fun i hi => ?_⟩, fun x hx => by rw [r6 x (by omega) (by omega) (by omega) (by omega) (by omega), w2 x (by omega)]⟩
    · have e0 : zlk I (d + 1) (s + 1) = I0 := rfl
      have c8 : zcpok 0 0 8 8 8 = true := by decide
      have c3 : zcpok 0 0 (nI 3) 3 3 = true := by decide
      have n3 : (nI 3).toNatClampNeg = 3 := by decide
      have q1 : ∀ x, 600 ≤ x → decide (600 ≤ x) = true := fun x hx => decide_eq_true hx
      unfold F_X5_like
      rw [zka_eq kD, dd, zg_true, d0, zb1_e, zka_eq kS, ds, zg_true, s0, zb1_e, zka_eq dS.2.1, hlk, zb1_e, e0, w1]
      simp only [zb1_e, s2, d2, ↓zka_eq sk1, ↓zka_eq dk1, q1 (s + 13) (by omega), q1 (d + 13) (by omega), zg_true, c8, zlet_e, s3, d3, ↓zka_eq sk2, ↓zka_eq dk2, q1 (s + 14) (by omega), q1 (d + 14) (by omega), s4, d4, ↓zka_eq sk3, ↓zka_eq dk3, q1 (s + 15) (by omega), q1 (d + 15) (by omega), s5, d5, ↓zka_eq sk4, ↓zka_eq dk4, q1 (s + 16) (by omega), q1 (d + 16) (by omega), c3, n3]
      rfl
    · rw [r6 _ (by omega) (by omega) (by omega) (by omega) (by omega), w2 _ (by omega)]
      exact hl
    · rw [zcv_row (I := J0) fun x p q => r6 x (by omega) (by omega) (by omega) (by omega) (by omega)]
      exact w3
    · show zu (zu J4 d 6 (J4 s 6)) d 7 (J5 s 7) d 6 = _
      rw [zu_off (by omega), zu_same, j4s]
      exact v3
    · rw [zcv_row (I := J0) fun x p q => r6 x (by omega) (by omega) (by omega) (by omega) (by omega)]
      exact w4 k hk
    · show zu J5 d 7 (J5 s 7) d 7 = _
      rw [zu_same, j5s]
      exact v6
    · have hk8 : k < 8 := Nat.lt_of_lt_of_le hk h8
      have q : ∀ x, x ≠ d → J6 x = J4 x := fun x hx => by
        show zu (zu J4 _ _ _) _ _ _ x = _
        rw [zu_row hx, zu_row hx]
      rw [q _ (by omega), q _ (by omega), q _ (by omega)]
      have e1 : J4 (d + 13) k = I (s + 13) k := by
        show zcpy (zcpy (zcpy (zcpy J0 _ _ _ _ _) _ _ _ _ _) _ _ _ _ _) _ _ _ _ _ (d + 13) k = _
        rw [zcp_off (by omega), zcp_off (by omega), zcp_off (by omega), zcp_hit hk8, w2 _ (by omega)]
      have e2 : J4 (d + 14) k = I (s + 14) k := by
        show zcpy (zcpy (zcpy (zcpy J0 _ _ _ _ _) _ _ _ _ _) _ _ _ _ _) _ _ _ _ _ (d + 14) k = _
        rw [zcp_off (by omega), zcp_off (by omega), zcp_hit hk8, zcp_off (by omega), w2 _ (by omega)]
      have e3 : J4 (d + 15) k = I (s + 15) k := by
        show zcpy (zcpy (zcpy (zcpy J0 _ _ _ _ _) _ _ _ _ _) _ _ _ _ _) _ _ _ _ _ (d + 15) k = _
        rw [zcp_off (by omega), zcp_hit hk8, zcp_off (by omega), zcp_off (by omega), w2 _ (by omega)]
      rw [e1, e2, e3]
      exact v6b k hk
    · have e : J6 (d + 16) = J4 (d + 16) := by
        show zu (zu J4 _ _ _) _ _ _ (d + 16) = _
        rw [zu_row (by omega), zu_row (by omega)]
      rw [e]
      show zcpy J3 (s + 16) 0 (d + 16) 0 3 (d + 16) i = _
      rw [zcp_hit hi]
      show zcpy (zcpy (zcpy J0 _ _ _ _ _) _ _ _ _ _) _ _ _ _ _ (s + 16) i = _
      rw [zcp_off (by omega), zcp_off (by omega), zcp_off (by omega), w2 _ (by omega)]
      exact v7 i hi
  · rintro i ⟨_, J⟩ hi ⟨rfl, e1, e2, e3⟩
    dsimp only at e1 e2 e3
    have hi40 : i < 40 := Nat.lt_of_lt_of_le hi v4
    have o1 := (ho.1 i hi40).1
    have o2 := (ho'.1 i hi40).1
    have hm : J s 6 = nI (bA b) := by rw [e1 s (by omega)]; exact v3
    have hgd := zBG hD ho (J := J) (by rw [e1 _ (by omega)]; exact hl) hi40
    have hgs := zBG hS ho' (J := J) (by rw [e1 _ (by omega)]; exact v1) hi40
    have hL := F_ones_like hD hS ho ho' hd (J := J) hi40
    refine Or.inl ⟨(nI (i + 1), zlk J (d + 17 + 10 * od i) (s + 17 + 10 * os i)), ?_, rfl, fun x hx => ?_, ?_, fun k hk => ?_⟩
    · dsimp only
      simp only [F_X5_like_L13, ↓zka_eq kS, ds, zg_true, hm, nI_ge hi (show bA b < 2 ^ 31 by omega), ↓reduceIte, ↓zka_eq kD, dd, d1, s1, zb1_e, ↓zka_eq dl1, ↓zka_eq sl1, hgd, hgs, ↓zka_eq (dst _ o1).2.1, ↓zka_eq (sst _ o2).2.1, hL, zlet_e, nI_1]
    · dsimp only
      rw [zlk_off (by omega)]
      exact e1 x hx
    · dsimp only
      rw [zcv_row (I := J) fun x p q => zlk_off (by omega)]
      exact e2
    · dsimp only
      by_cases c : k = i
      · subst c
        rw [zlk_cv hf hb (by omega), zcv_row (I := I) fun x p q => e1 x (by omega)]
        exact v5 k hi
      · have hk' : k < i := by omega
        have hne : od k ≠ od i := fun q => c (ho.2 k i (by omega) hi40 q)
        have o3 := (ho.1 k (by omega)).1
        rw [zcv_row (I := J) fun x p q => zlk_off (by omega)]
        exact e3 k hk'
  · rintro ⟨_, J⟩ ⟨rfl, e1, e2, e3⟩
    dsimp only at e1 e2 e3
    refine ⟨J, ?_, e1, e2, e3⟩
    have hm : J s 6 = nI (bA b) := by rw [e1 s (by omega)]; exact v3
    dsimp only
    simp only [F_X5_like_L13, ↓zka_eq kS, ds, zg_true, hm, ↓reduceIte, nI_le (Nat.le_refl (bA b)) (show bA b < 2 ^ 31 by omega)]
end L43
