/-! L45: feed -/
/-- the byte at i of a word -/
def wby (w : Int32) (i : Nat) : Int32 := (w >>> (nI (24 - 8 * i) &&& 31)) &&& 255
def wsl (x0 x1 x2 x3 x4 : Int32) (i : Nat) : Int32 := if i / 4 = 0 then x0 else if i / 4 = 1 then x1 else if i / 4 = 2 then x2 else if i / 4 = 3 then x3 else x4
def q_feed (t : zTp) (x0 x1 x2 x3 x4 : Int32) : Int32 × zTp := if t.1 + 20 ≤ 700 then (nI (t.1 + 20), (t.1 + 20, fun k => if k < t.1 then t.2 k else wby (wsl x0 x1 x2 x3 x4 (k - t.1)) ((k - t.1) % 4))) else (-1, t)
theorem by8 (x : Int32) : (x &&& 255).toInt8 = x.toInt8 := by
  apply Int8.toBitVec_inj.mp
  rw [Int32.toBitVec_toInt8, Int32.toBitVec_toInt8]
  apply BitVec.eq_of_getLsbD_eq
  intro i hi
  rw [Int32.toBitVec_and, BitVec.getLsbD_signExtend, BitVec.getLsbD_signExtend]
  have h : i < 32 := by omega
  simp only [hi, h, decide_true, Bool.true_and, if_true, BitVec.getLsbD_and]
  have : (255 : Int32).toBitVec.getLsbD i = true := by
    have : ∀ i, i < 8 → (255 : Int32).toBitVec.getLsbD i = true := by decide
    exact this i hi
  rw [this, Bool.and_true]
section L45
variable {K : zKd} {F : zFd} {I J : zId} {L : zLd} {n a N : Nat} {P : zP} {X : zXd} {b b' : zBk} {m : Bool × zBk} {t : zTp} {ft : Int32}
theorem F_lay_ok (k0 : K 1000 = some (0, 0)) (f6 : F 1000 6 = some 1857) (kt : K 1857 = some (65, 700)) {s : Nat} (hs : s + 4 ≤ 700) (h7 : I 1000 7 = nI s) (w : Int32) : ∃ J, F_X1_lay K F 1000 w I = some J ∧ (∀ x, x ≠ 1857 → x ≠ 1000 → J x = I x) ∧ (∀ k, k ≠ 7 → J 1000 k = I 1000 k) ∧ J 1000 7 = nI (s + 4) ∧ (∀ i, i < 4 → J 1857 (s + i) = (wby w i).toInt8.toInt32) ∧ ∀ k, k < s → J 1857 k = I 1857 k := by
  have hv : ∀ i, i < 4 → (24 - 8 * nI i : Int32) = nI (24 - 8 * i) ∧ (24 - 8 * nI i) + (-8) = 24 - 8 * nI (i + 1) ∧ ¬ ((24 : Int32) - 8 * nI i) < 0 := by decide
  have s' := zloop_up (body := fun z : Int32 × zId => F_X1_lay_L3 K F 1000 w z.1 z.2) (fun i z => z.1 = 24 - 8 * nI i ∧ (∀ x, x ≠ 1857 → x ≠ 1000 → z.2 x = I x) ∧ (∀ k, k ≠ 7 → z.2 1000 k = I 1000 k) ∧ z.2 1000 7 = nI (s + i) ∧ (∀ j, j < i → z.2 1857 (s + j) = (wby w j).toInt8.toInt32) ∧ ∀ k, k < s → z.2 1857 k = I 1857 k) (fun t => (∀ x, x ≠ 1857 → x ≠ 1000 → t x = I x) ∧ (∀ k, k ≠ 7 → t 1000 k = I 1000 k) ∧ t 1000 7 = nI (s + 4) ∧ (∀ j, j < 4 → t 1857 (s + j) = (wby w j).toInt8.toInt32) ∧ ∀ k, k < s → t 1857 k = I 1857 k) 4 ?_ ?_ 0 (24, I) (Nat.zero_le _) ⟨(show (24 : Int32) = 24 - 8 * nI 0 by decide), fun _ _ _ => rfl, fun _ _ => rfl, h7, fun j hj => absurd hj (Nat.not_lt_zero j), fun _ _ => rfl⟩
  · obtain ⟨J, h1, h2⟩ := s'
    exact ⟨J, by simp only [F_X1_lay, h1, zb1_e], h2⟩
  · rintro i ⟨_, J⟩ hi ⟨rfl, e1, e2, e3, e4, e5⟩
    dsimp only at e1 e2 e3 e4 e5
    obtain ⟨v1, v2, v3⟩ := hv i hi
    let y : Int32 := vp_nar .byte ((w >>> ((24 - 8 * nI i) &&& (31 : Int32))).toInt8.toInt32)
    have hy : y = (wby w i).toInt8.toInt32 := by
      unfold wby
      rw [by8, ← v1]
      show ((w >>> ((24 - 8 * nI i) &&& (31 : Int32))).toInt8.toInt32).toInt8.toInt32 = _
      rw [Int8.toInt8_toInt32]
    refine Or.inl ⟨(24 - 8 * nI (i + 1), zu (zu J 1857 (s + i) y) 1000 7 (nI (s + (i + 1)))), ?_, rfl, fun x p q => ?_, fun k hk => ?_, (by dsimp only; exact zu_same), fun j hj => ?_, fun k hk => ?_⟩
    · dsimp only
      have e7 : zu J 1857 (s + i) y 1000 7 = nI (s + i) := by rw [zu_row (by decide)]; exact e3
      simp only [F_X1_lay_L3, v3, ↓zka_eq k0, d1000, ↓reduceIte, zg_true, zb1_e, zb2_e, zb3_e, zsum, zlet_e, nI_1, f6, ↓zka_eq kt, e3, zin_n (show s + i < 700 by omega), nI_c (show s + i < 2147483648 by omega), show decide (600 ≤ 1857) = true from rfl, show vp_nar .byte ((w >>> ((24 - 8 * nI i) &&& (31 : Int32))).toInt8.toInt32) = y from rfl, e7, v2, Nat.add_assoc]
    · dsimp only
      rw [zu_row q, zu_row p]
      exact e1 x p q
    · dsimp only
      rw [zu_off (by omega), zu_row (by decide)]
      exact e2 k hk
    · dsimp only
      rw [zu_row (by decide)]
      by_cases c : j = i
      · subst c
        rw [zu_same, hy]
      · rw [zu_off (by omega)]
        exact e4 j (by omega)
    · dsimp only
      rw [zu_row (by decide), zu_off (by omega)]
      exact e5 k hk
  · rintro ⟨_, J⟩ ⟨rfl, h⟩
    refine ⟨J, ?_, h⟩
    dsimp only
    simp only [F_X1_lay_L3, show ((24 : Int32) - 8 * nI 4) < 0 from by decide, ↓reduceIte]
theorem F_feed_ok (h : zCW K F I a N P X b m t ft) (x0 x1 x2 x3 x4 : Int32) : ∃ J, F_X1_feed K F 1000 x0 x1 x2 x3 x4 I = some ((q_feed t x0 x1 x2 x3 x4).1, J) ∧ zCW K F J a N P X b m (q_feed t x0 x1 x2 x3 x4).2 ft ∧ ∀ x, (x < 600 ∨ 1860 ≤ x) → J x = I x := by
  have h0 := h
  obtain ⟨h1, h2, h3, ⟨o, h4, h5⟩, ⟨h6, h6b⟩, ⟨h7, h8, h9⟩, h10⟩ := h
  have hd := h1.1.2.2.2.2.2.2
  obtain ⟨k0, ⟨f0, f1, f2, f3, f4, f6, -⟩, ⟨kt, -⟩, -, -⟩ := h1.1
  have c20 : nI t.1 + 20 = nI (t.1 + 20) := nI_add t.1 20
  have hle : nI (t.1 + 20) ≤ 700 ↔ t.1 + 20 ≤ 700 := nI_leI (b := 700) (by omega) (by decide)
  unfold q_feed
  by_cases c : t.1 + 20 ≤ 700
  · rw [if_pos c]
    obtain ⟨J0, a1, a2, a3, a4, a5, a6⟩ := F_lay_ok (I := I) k0 f6 kt (s := t.1) (by omega) h7 x0
    obtain ⟨J1, b1, b2, b3, b4, b5, b6⟩ := F_lay_ok (I := J0) k0 f6 kt (s := t.1 + 4) (by omega) a4 x1
    obtain ⟨J2, c1, c2, c3, c4, c5, c6⟩ := F_lay_ok (I := J1) k0 f6 kt (s := t.1 + 4 + 4) (by omega) b4 x2
    obtain ⟨J3, d1, d2, d3, d4, d5, d6⟩ := F_lay_ok (I := J2) k0 f6 kt (s := t.1 + 4 + 4 + 4) (by omega) c4 x3
    obtain ⟨J4, e1, e2, e3, e4, e5, e6⟩ := F_lay_ok (I := J3) k0 f6 kt (s := t.1 + 4 + 4 + 4 + 4) (by omega) d4 x4
    have r : ∀ x, x ≠ 1857 → x ≠ 1000 → J4 x = I x := fun x p q => by rw [e2 x p q, d2 x p q, c2 x p q, b2 x p q, a2 x p q]
    have r0 : ∀ k, k ≠ 7 → J4 1000 k = I 1000 k := fun k hk => by rw [e3 k hk, d3 k hk, c3 k hk, b3 k hk, a3 k hk]
    have hcq : zCQ K F J4 a N P X := h1.1.cg (fun x p q s => r x (by omega) (by omega)) (fun x p => r x (by omega) (by omega))
    have hbk : zCB K F J4 a N P X b := by
      obtain ⟨c1, c2, c3, ⟨o', c4, c5⟩, c6, c7⟩ := id h1
      refine ⟨hcq, c2, c3, ⟨o', c4, ?_⟩, c6, c7⟩
      have := c5.st (J := J4) (fun x p q s => r x (by omega) (by omega)) fun k hk => (c4.1 k (Nat.lt_of_lt_of_le hk c6.1)).1
      rw [zcv_row (I := I) fun x p q => r x (by omega) (by omega), h1.now] at this
      exact this
    refine ⟨J4, ?_, ⟨hbk, h2, by rw [r _ (by decide) (by decide)]; exact h3, ⟨o, h4, fun hm => (h5 hm).im h4 fun x p q => r x (by omega) (by omega)⟩, ⟨by rw [r0 _ (by decide)]; exact h6, h6b⟩, ⟨e4, c, fun k hk => ?_⟩, by rw [r0 _ (by decide)]; exact h10⟩, fun x hx => r x (by omega) (by omega)⟩
    · have e4' : J4 1000 7 = nI (t.1 + 20) := e4
      simp only [F_X1_feed, ↓zka_eq k0, d1000, ↓reduceIte, zg_true, zb1_e, zb2_e, zb3_e, zsum, zlet_e, nI_1, h7, c20, hle.mpr c, a1, b1, c1, d1, e1, e4']
    · have hk' : k < t.1 + 20 := hk
      show J4 1857 k = (if k < t.1 then t.2 k else wby (wsl x0 x1 x2 x3 x4 (k - t.1)) ((k - t.1) % 4)).toInt8.toInt32
      by_cases c : k < t.1
      · rw [if_pos c, e6 k (by omega), d6 k (by omega), c6 k (by omega), b6 k (by omega), a6 k c]
        exact h9 k c
      · rw [if_neg c]
        obtain ⟨i, rfl⟩ : ∃ i, k = t.1 + i := ⟨k - t.1, by omega⟩
        rw [Nat.add_sub_cancel_left]
        have hi : i < 20 := by omega
        rcases (show i < 4 ∨ (4 ≤ i ∧ i < 8) ∨ (8 ≤ i ∧ i < 12) ∨ (12 ≤ i ∧ i < 16) ∨ 16 ≤ i by omega) with q | q | q | q | q
        · rw [e6 _ (by omega), d6 _ (by omega), c6 _ (by omega), b6 _ (by omega), a5 i q, show wsl x0 x1 x2 x3 x4 i = x0 from if_pos (by omega), show i % 4 = i by omega]
        · obtain ⟨j, rfl⟩ : ∃ j, i = 4 + j := ⟨i - 4, by omega⟩
          rw [e6 _ (by omega), d6 _ (by omega), c6 _ (by omega), show t.1 + (4 + j) = t.1 + 4 + j by omega, b5 j (by omega), show wsl x0 x1 x2 x3 x4 (4 + j) = x1 by unfold wsl; rw [if_neg (by omega), if_pos (by omega)], show (4 + j) % 4 = j by omega]
        · obtain ⟨j, rfl⟩ : ∃ j, i = 8 + j := ⟨i - 8, by omega⟩
          rw [e6 _ (by omega), d6 _ (by omega), show t.1 + (8 + j) = t.1 + 4 + 4 + j by omega, c5 j (by omega), show wsl x0 x1 x2 x3 x4 (8 + j) = x2 by unfold wsl; rw [if_neg (by omega), if_neg (by omega), if_pos (by omega)], show (8 + j) % 4 = j by omega]
        · obtain ⟨j, rfl⟩ : ∃ j, i = 12 + j := ⟨i - 12, by omega⟩
          rw [e6 _ (by omega), show t.1 + (12 + j) = t.1 + 4 + 4 + 4 + j by omega, d5 j (by omega), show wsl x0 x1 x2 x3 x4 (12 + j) = x3 by unfold wsl; rw [if_neg (by omega), if_neg (by omega), if_neg (by omega), if_pos (by omega)], show (12 + j) % 4 = j by omega]
        · obtain ⟨j, rfl⟩ : ∃ j, i = 16 + j := ⟨i - 16, by omega⟩
          rw [show t.1 + (16 + j) = t.1 + 4 + 4 + 4 + 4 + j by omega, e5 j (by omega), show wsl x0 x1 x2 x3 x4 (16 + j) = x4 by unfold wsl; rw [if_neg (by omega), if_neg (by omega), if_neg (by omega), if_neg (by omega)], show (16 + j) % 4 = j by omega]
  · rw [if_neg c]
    refine ⟨I, ?_, h0, fun _ _ => rfl⟩
    simp only [F_X1_feed, ↓zka_eq k0, d1000, ↓reduceIte, zg_true, zb1_e, zb2_e, zb3_e, zsum, zlet_e, nI_1, h7, c20, mt hle.mp c]
end L45
