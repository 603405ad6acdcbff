/-! L30: the component measures ways -/
def zrc (n : Nat) (w : Nat → Nat → Int32) : Nat → Nat → Nat → Int → Prop
  | 0, a, b, x => a = b ∧ x = 0
  | m + 1, a, b, x => ∃ (p : Nat) (y : Int), p < n ∧ zrc n w m a p y ∧ 0 < (w p b).toInt ∧ x = y + (w p b).toInt
theorem zrc_comp {n : Nat} {w : Nat → Nat → Int32} {m a k : Nat} {x : Int} (h : zrc n w m a k x) : ∀ m' b y, zrc n w m' k b y → zrc n w (m + m') a b (x + y)
  | 0, b, y, h2 => by
    obtain ⟨rfl, rfl⟩ := h2
    rw [Int.add_zero]; exact h
  | m' + 1, b, y, h2 => by
    obtain ⟨p, y', h3, h4, h5, rfl⟩ := h2
    exact ⟨p, x + y', h3, zrc_comp h m' p y' h4, h5, by omega⟩
def zfw (n : Nat) (w d : Nat → Nat → Int32) : Prop := (∀ a, a < n → (d a a).toInt = 0) ∧ (∀ a b, a < n → b < n → rg (d a b) 0 100000) ∧ (∀ b c, b < n → c < n → 0 < (w b c).toInt → (d b c).toInt ≤ (w b c).toInt) ∧ ∀ a b, a < n → b < n → (d a b).toInt < 100000 → ∃ m, zrc n w m a b (d a b).toInt
def ztri (n k : Nat) (d : Nat → Nat → Int32) : Prop := ∀ j, j < k → ∀ a b, a < n → b < n → (d a b).toInt ≤ (d a j).toInt + (d j b).toInt
/-- in stage k, the places before (p, q) are done -/
def zst (n k p q : Nat) (d0 d : Nat → Nat → Int32) : Prop := ∀ a b, a < n → b < n → (d a b).toInt = if a < p ∨ (a = p ∧ b < q) then min (d0 a b).toInt ((d0 a k).toInt + (d0 k b).toInt) else (d0 a b).toInt
section L30
variable {n : Nat} {w d d0 : Nat → Nat → Int32} {k p q : Nat}
theorem zst_upd (hk : k < n) (hp : p < n) (hq : q < n) (h0 : zfw n w d0) (hf : zfw n w d) (h : zst n k p q d0 d) {d' : Nat → Nat → Int32} (h1 : ∀ a b, a < n → b < n → ¬ (a = p ∧ b = q) → d' a b = d a b) (h2 : d' p q = zmin (d p q) (d p k + d k q)) : zfw n w d' ∧ zst n k p (q + 1) d0 d' := by
  have r1 := hf.2.1 p k hp hk
  have r2 := hf.2.1 k q hk hq
  have r3 := hf.2.1 p q hp hq
  unfold rg at r1 r2 r3
  have e0 : (d' p q).toInt = min (d p q).toInt ((d p k).toInt + (d k q).toInt) := by rw [h2, i_min, i_add (by omega) (by omega)]
  have hle : ∀ a b, a < n → b < n → (d' a b).toInt ≤ (d a b).toInt := fun a b ha hb => by
    by_cases e : a = p ∧ b = q
    · obtain ⟨rfl, rfl⟩ := e; rw [e0]; omega
    · rw [h1 a b ha hb e]; exact Int.le_refl _
  have hge : ∀ a b, a < n → b < n → 0 ≤ (d' a b).toInt := fun a b ha hb => by
    by_cases e : a = p ∧ b = q
    · obtain ⟨rfl, rfl⟩ := e; rw [e0]; omega
    · rw [h1 a b ha hb e]; exact (hf.2.1 a b ha hb).1
  refine ⟨⟨fun a ha => ?_, fun a b ha hb => ⟨hge a b ha hb, Int.le_trans (hle a b ha hb) (hf.2.1 a b ha hb).2⟩, fun b c hb hc hw => Int.le_trans (hle b c hb hc) (hf.2.2.1 b c hb hc hw), fun a b ha hb hlt => ?_⟩, fun a b ha hb => ?_⟩
  · have := hle a a ha ha
    have := hge a a ha ha
    rw [hf.1 a ha] at *
    omega
  · by_cases e : a = p ∧ b = q
    · obtain ⟨rfl, rfl⟩ := e
      rw [e0] at hlt ⊢
      by_cases c : (d a b).toInt ≤ (d a k).toInt + (d k b).toInt
      · rw [Int.min_eq_left c] at hlt ⊢
        exact hf.2.2.2 a b ha hb hlt
      · rw [Int.min_eq_right (by omega)] at hlt ⊢
        obtain ⟨m1, c1⟩ := hf.2.2.2 a k ha hk (by omega)
        obtain ⟨m2, c2⟩ := hf.2.2.2 k b hk hb (by omega)
        exact ⟨m1 + m2, zrc_comp c1 m2 b _ c2⟩
    · rw [h1 a b ha hb e] at hlt ⊢
      exact hf.2.2.2 a b ha hb hlt
  · by_cases e : a = p ∧ b = q
    · obtain ⟨rfl, rfl⟩ := e
      rw [if_pos (by omega), e0]
      have f1 := h a b ha hb
      have f2 := h a k ha hk
      have f3 := h k b hk hb
      have g1 := h0.1 k hk
      have g2 := (h0.2.1 a k ha hk).1
      have g3 := (h0.2.1 k b hk hb).1
      rw [if_neg (by omega)] at f1
      have f2' : (d a k).toInt = (d0 a k).toInt := by
        rw [f2]
        split
        · rw [g1]; omega
        · rfl
      have f3' : (d k b).toInt = (d0 k b).toInt := by
        rw [f3]
        split
        · rw [g1]; omega
        · rfl
      rw [f1, f2', f3']
    · rw [h1 a b ha hb e, h a b ha hb]
      by_cases c : a < p ∨ (a = p ∧ b < q)
      · rw [if_pos c, if_pos (by omega)]
      · rw [if_neg c, if_neg (by omega)]
theorem zst_row (h : zst n k p n d0 d) : zst n k (p + 1) 0 d0 d := fun a b ha hb => by
  rw [h a b ha hb]
  by_cases c : a < p ∨ (a = p ∧ b < n)
  · rw [if_pos c, if_pos (by omega)]
  · rw [if_neg c, if_neg (by omega)]
theorem zst_tri (hk : k < n) (h0 : zfw n w d0) (ht : ztri n k d0) (h : zst n k n 0 d0 d) : ztri n (k + 1) d := by
  have e : ∀ a b, a < n → b < n → (d a b).toInt = min (d0 a b).toInt ((d0 a k).toInt + (d0 k b).toInt) := fun a b ha hb => by rw [h a b ha hb, if_pos (by omega)]
  intro j hj a b ha hb
  have hjn : j < n := by omega
  have g1 := h0.1 k hk
  have q1 := (h0.2.1 a k ha hk).1
  have q2 := (h0.2.1 k b hk hb).1
  have q3 := (h0.2.1 j k hjn hk).1
  have q4 := (h0.2.1 k j hk hjn).1
  rw [e a b ha hb, e a j ha hjn, e j b hjn hb]
  by_cases c : j = k
  · subst c
    rw [g1]
    omega
  · have t1 := ht j (by omega) a b ha hb
    have t2 := ht j (by omega) k b hk hb
    have t3 := ht j (by omega) a k ha hk
    omega
theorem zfw_D (h : zfw n w d) (ht : ztri n n d) : isD n w d := by
  have cl : ∀ a b c, a < n → b < n → c < n → 0 < (w b c).toInt → (d a c).toInt ≤ (d a b).toInt + (w b c).toInt := fun a b c ha hb hc hw => by
    have := ht b hb a c ha hc
    have := h.2.2.1 b c hb hc hw
    omega
  have lo : ∀ m a b x, a < n → b < n → zrc n w m a b x → (d a b).toInt ≤ x := by
    intro m
    induction m with
    | zero =>
      intro a b x ha hb hz
      obtain ⟨rfl, rfl⟩ := hz
      rw [h.1 a ha]; exact Int.le_refl _
    | succ m ih =>
      intro a b x ha hb hz
      obtain ⟨p, y, h3, h4, h5, rfl⟩ := hz
      have := ih a p y ha h3 h4
      have := cl a p b ha h3 hb h5
      omega
  refine ⟨h.1, h.2.1, cl, fun a b ha hb => ?_⟩
  by_cases c : (d a b).toInt < 100000
  · obtain ⟨m, hm⟩ := h.2.2.2 a b ha hb c
    cases m with
    | zero => exact Or.inr (Or.inl hm.1)
    | succ m =>
      obtain ⟨p, y, h3, h4, h5, h6⟩ := hm
      have := lo m a p y ha h3 h4
      have := cl a p b ha h3 hb h5
      exact Or.inr (Or.inr ⟨p, h3, h5, by omega⟩)
  · have := (h.2.1 a b ha hb).2
    exact Or.inl (by omega)
end L30
section L30b
variable {K : zKd} {F : zFd} {I : zId} {a E nf : Nat}
theorem F_rd_ok (k : K a = some (1, 0)) (h6 : 600 ≤ a) (f8 : F a 8 = some (a + 8)) (k8 : K (a + 8) = some (64, 64)) {i j : Nat} (hi : i < 8) (hj : j < 8) {J : zId} : F_X2_far K F a (nI i) (nI j) J = some (J (a + 8) (8 * i + j)) := by
  have e8 : (8 : Int32) * nI i + nI j = nI (8 * i + j) := by rw [show (8 : Int32) * nI i = nI (8 * i) from nI_mul (a := 8) (by omega) (by decide) (by omega), nI_add]
  simp only [F_X2_far, ↓zka_eq k, decide_eq_true h6, f8, ↓reduceIte, zg_true, zb1_e, zb2_e, zb3_e, zsum, zlet_e, nI_1, ↓zka_eq k8, e8, zin_n (show 8 * i + j < 64 by omega), nI_c (show 8 * i + j < 2147483648 by omega)]
theorem F_hr_ok (k : K a = some (1, 0)) (h6 : 600 ≤ a) (f7 : F a 7 = some (a + 7)) (k7 : K (a + 7) = some (64, 64)) {i j : Nat} (hi : i < 8) (hj : j < 8) {J : zId} : F_X2_hasRiver K F a (nI i) (nI j) J = some (if J (a + 7) (8 * i + j) ≤ 0 then 0 else 1) := by
  have e8 : (8 : Int32) * nI i + nI j = nI (8 * i + j) := by rw [show (8 : Int32) * nI i = nI (8 * i) from nI_mul (a := 8) (by omega) (by decide) (by omega), nI_add]
  simp only [F_X2_hasRiver, ↓zka_eq k, decide_eq_true h6, f7, ↓reduceIte, zg_true, zb1_e, zb2_e, zb3_e, zsum, zlet_e, nI_1, ↓zka_eq k7, e8, zin_n (show 8 * i + j < 64 by omega), nI_c (show 8 * i + j < 2147483648 by omega)]
  split <;> rfl
abbrev zm8 (J : zId) (x : Nat) : Nat → Nat → Int32 := fun i j => J x (8 * i + j)
theorem zm8_u {J : zId} {x i j : Nat} {v : Int32} (hj : j < 8) {i' j' : Nat} (hj' : j' < 8) (h : ¬ (i' = i ∧ j' = j)) : zm8 (zu J x (8 * i + j) v) x i' j' = zm8 J x i' j' := zu_off (by omega)
set_option maxHeartbeats 1000000 in
theorem F_meas_ok (k : K a = some (1, 0)) (h6 : 600 ≤ a) (f4 : F a 4 = some (a + 1)) (hal : zAL K F I (a + 1) E nf) (hnf : nf ≤ 8) (f7 : F a 7 = some (a + 7)) (k7 : K (a + 7) = some (64, 64)) (f8 : F a 8 = some (a + 8)) (k8 : K (a + 8) = some (64, 64)) (hw : zwd nf (zm8 I (a + 7))) : ∃ J, F_X2_measures K F a I = some J ∧ isD nf (zm8 I (a + 7)) (zm8 J (a + 8)) ∧ ∀ x, x ≠ a + 8 → J x = I x := by
  have d68 : decide (600 ≤ a + 8) = true := decide_eq_true (by omega)
  have e8 : ∀ i j, i < 8 → j < 8 → (8 : Int32) * nI i + nI j = nI (8 * i + j) := fun i j hi hj => by rw [show (8 : Int32) * nI i = nI (8 * i) from nI_mul (a := 8) (by omega) (by decide) (by omega), nI_add]
  have z8 : ∀ i j, i < 8 → j < 8 → zin (nI (8 * i + j)) 64 = true := fun i j hi hj => zin_n (by omega)
  have c8 : ∀ i j, i < 8 → j < 8 → (nI (8 * i + j)).toNatClampNeg = 8 * i + j := fun i j hi hj => nI_c (by omega)
  generalize hW : zm8 I (a + 7) = w at *
  have wr : ∀ J : zId, (∀ x, x ≠ a + 8 → J x = I x) → ∀ i j, J (a + 7) (8 * i + j) = w i j := fun J h i j => by rw [h _ (by omega), ← hW]
  let ini : Nat → Nat → Int32 := fun i j => if i = j then 0 else if w i j ≤ 0 then 100000 else w i j
  have s1 := zloop_up (body := fun s : Int32 × zId => F_X2_measures_L10 K F a (nI nf) s.1 s.2) (fun p s => s.1 = nI p ∧ (∀ x, x ≠ a + 8 → s.2 x = I x) ∧ ∀ i j, i < p → j < nf → zm8 s.2 (a + 8) i j = ini i j) (fun t => (∀ x, x ≠ a + 8 → t x = I x) ∧ ∀ i j, i < nf → j < nf → zm8 t (a + 8) i j = ini i j) nf ?_ ?_ 0 (0, I) (Nat.zero_le _) ⟨rfl, fun _ _ => rfl, fun i j h => absurd h (Nat.not_lt_zero i)⟩
  · obtain ⟨J0, t1, t2, t3⟩ := s1
    have hin : zfw nf w (zm8 J0 (a + 8)) := by
      have q : ∀ i j, i < nf → j < nf → (zm8 J0 (a + 8) i j).toInt = if i = j then 0 else if w i j ≤ 0 then 100000 else (w i j).toInt := fun i j hi hj => by
        rw [t3 i j hi hj]
        show (if i = j then (0 : Int32) else if w i j ≤ 0 then 100000 else w i j).toInt = _
        split
        · rfl
        · split <;> rfl
      refine ⟨fun i hi => by rw [q i i hi hi, if_pos rfl], fun i j hi hj => ?_, fun i j hi hj h => ?_, fun i j hi hj h => ?_⟩
      · have hwr := hw i j hi hj
        unfold rg at *
        rw [q i j hi hj]
        split
        · omega
        · split <;> omega
      · rw [q i j hi hj]
        split
        · omega
        · rw [if_neg (mt iLe.mp (by rw [i_0]; omega))]; exact Int.le_refl _
      · rw [q i j hi hj] at h ⊢
        by_cases e : i = j
        · exact ⟨0, e, if_pos e⟩
        · rw [if_neg e] at h ⊢
          by_cases c : w i j ≤ 0
          · rw [if_pos c] at h; omega
          · rw [if_neg c] at h ⊢
            have := mt iLe.mpr c
            rw [i_0] at this
            exact ⟨1, i, 0, hi, ⟨rfl, rfl⟩, by omega, by omega⟩
    have s2 := zloop_up (body := fun s : Int32 × zId => F_X2_measures_L81 K F a (nI nf) s.1 s.2) (fun k s => s.1 = nI k ∧ (∀ x, x ≠ a + 8 → s.2 x = I x) ∧ zfw nf w (zm8 s.2 (a + 8)) ∧ ztri nf k (zm8 s.2 (a + 8))) (fun t => (∀ x, x ≠ a + 8 → t x = I x) ∧ zfw nf w (zm8 t (a + 8)) ∧ ztri nf nf (zm8 t (a + 8))) nf ?_ ?_ 0 (0, J0) (Nat.zero_le _) ⟨rfl, t2, hin, fun j hj => absurd hj (Nat.not_lt_zero j)⟩
    · obtain ⟨J, u1, u2, u3, u4⟩ := s2
      exact ⟨J, by simp only [F_X2_measures, ↓zka_eq k, decide_eq_true h6, f4, ↓reduceIte, zg_true, zb1_e, zb2_e, zb3_e, zsum, zlet_e, nI_1, ↓zka_eq hal.2.1, zAL_size hal, t1, u1], zfw_D u3 u4, u2⟩
    · rintro k' ⟨_, J⟩ hk ⟨rfl, e1, e2, e3⟩
      dsimp only at e1 e2 e3
      have s3 := zloop_up (body := fun s : Int32 × zId => F_X2_measures_L88 K F a (nI nf) (nI k') s.1 s.2) (fun p s => s.1 = nI p ∧ (∀ x, x ≠ a + 8 → s.2 x = I x) ∧ zfw nf w (zm8 s.2 (a + 8)) ∧ zst nf k' p 0 (zm8 J (a + 8)) (zm8 s.2 (a + 8))) (fun t => (∀ x, x ≠ a + 8 → t x = I x) ∧ zfw nf w (zm8 t (a + 8)) ∧ zst nf k' nf 0 (zm8 J (a + 8)) (zm8 t (a + 8))) nf ?_ ?_ 0 (0, J) (Nat.zero_le _) ⟨rfl, e1, e2, fun i j _ _ => by rw [if_neg (by omega)]⟩
      · obtain ⟨J1, u1, u2, u3, u4⟩ := s3
        refine Or.inl ⟨(nI (k' + 1), J1), ?_, rfl, u2, u3, zst_tri hk e2 e3 u4⟩
        dsimp only
        simp only [F_X2_measures_L81, ↓reduceIte, zg_true, zb1_e, zb2_e, zb3_e, zsum, zlet_e, nI_1, nI_ge hk (show nf < 2 ^ 31 by omega), u1]
      · rintro p ⟨_, J1⟩ hp ⟨rfl, d1, d2, d3⟩
        dsimp only at d1 d2 d3
        have s4 := zloop_up (body := fun s : Int32 × zId => F_X2_measures_L96 K F a (nI nf) (nI k') (nI p) s.1 s.2) (fun q s => s.1 = nI q ∧ (∀ x, x ≠ a + 8 → s.2 x = I x) ∧ zfw nf w (zm8 s.2 (a + 8)) ∧ zst nf k' p q (zm8 J (a + 8)) (zm8 s.2 (a + 8))) (fun t => (∀ x, x ≠ a + 8 → t x = I x) ∧ zfw nf w (zm8 t (a + 8)) ∧ zst nf k' p nf (zm8 J (a + 8)) (zm8 t (a + 8))) nf ?_ ?_ 0 (0, J1) (Nat.zero_le _) ⟨rfl, d1, d2, d3⟩
        · obtain ⟨J2, u1, u2, u3, u4⟩ := s4
          refine Or.inl ⟨(nI (p + 1), J2), ?_, rfl, u2, u3, zst_row u4⟩
          dsimp only
          simp only [F_X2_measures_L88, ↓reduceIte, zg_true, zb1_e, zb2_e, zb3_e, zsum, zlet_e, nI_1, nI_ge hp (show nf < 2 ^ 31 by omega), u1]
        · rintro q ⟨_, J2⟩ hq ⟨rfl, c1, c2, c3⟩
          dsimp only at c1 c2 c3
          have hu := zst_upd hk hp hq e2 c2 c3 (d' := zm8 (zu J2 (a + 8) (8 * p + q) (zmin (J2 (a + 8) (8 * p + q)) (J2 (a + 8) (8 * p + k') + J2 (a + 8) (8 * k' + q)))) (a + 8)) (fun i j hi hj h => zm8_u (by omega) (by omega) h) zu_same
          refine Or.inl ⟨(nI (q + 1), zu J2 (a + 8) (8 * p + q) (zmin (J2 (a + 8) (8 * p + q)) (J2 (a + 8) (8 * p + k') + J2 (a + 8) (8 * k' + q)))), ?_, rfl, fun x hx => by dsimp only; rw [zu_row hx]; exact c1 x hx, hu.1, hu.2⟩
          dsimp only
          simp only [F_X2_measures_L96, ↓reduceIte, zg_true, zb1_e, zb2_e, zb3_e, zsum, zlet_e, nI_1, nI_ge hq (show nf < 2 ^ 31 by omega), ↓zka_eq k, decide_eq_true h6, f8, F_rd_ok k h6 f8 k8 (show p < 8 by omega) (show q < 8 by omega), F_rd_ok k h6 f8 k8 (show p < 8 by omega) (show k' < 8 by omega), F_rd_ok k h6 f8 k8 (show k' < 8 by omega) (show q < 8 by omega), ↓zka_eq k8, e8 p q (by omega) (by omega), z8 p q (by omega) (by omega), c8 p q (by omega) (by omega), d68]
        · rintro ⟨_, J2⟩ ⟨rfl, c1, c2⟩
          exact ⟨J2, by dsimp only; simp only [F_X2_measures_L96, ↓reduceIte, nI_le (Nat.le_refl (nf)) (show nf < 2 ^ 31 by omega)], c1, c2⟩
      · rintro ⟨_, J1⟩ ⟨rfl, d1, d2⟩
        exact ⟨J1, by dsimp only; simp only [F_X2_measures_L88, ↓reduceIte, nI_le (Nat.le_refl (nf)) (show nf < 2 ^ 31 by omega)], d1, d2⟩
    · rintro ⟨_, J⟩ ⟨rfl, e1, e2⟩
      exact ⟨J, by dsimp only; simp only [F_X2_measures_L81, ↓reduceIte, nI_le (Nat.le_refl (nf)) (show nf < 2 ^ 31 by omega)], e1, e2⟩
  · rintro p ⟨_, J⟩ hp ⟨rfl, e1, e2⟩
    dsimp only at e1 e2
    have s3 := zloop_up (body := fun s : Int32 × zId => F_X2_measures_L17 K F a (nI nf) (nI p) s.1 s.2) (fun q s => s.1 = nI q ∧ (∀ x, x ≠ a + 8 → s.2 x = I x) ∧ ∀ i j, (i < p ∧ j < nf) ∨ (i = p ∧ j < q) → zm8 s.2 (a + 8) i j = ini i j) (fun t => (∀ x, x ≠ a + 8 → t x = I x) ∧ ∀ i j, (i < p ∧ j < nf) ∨ (i = p ∧ j < nf) → zm8 t (a + 8) i j = ini i j) nf ?_ ?_ 0 (0, J) (Nat.zero_le _) ⟨rfl, e1, fun i j h => h.elim (fun h => e2 i j h.1 h.2) fun h => absurd h.2 (Nat.not_lt_zero j)⟩
    · obtain ⟨J1, u1, u2, u3⟩ := s3
      refine Or.inl ⟨(nI (p + 1), J1), ?_, rfl, u2, fun i j hi hj => u3 i j (by omega)⟩
      dsimp only
      simp only [F_X2_measures_L10, ↓reduceIte, zg_true, zb1_e, zb2_e, zb3_e, zsum, zlet_e, nI_1, nI_ge hp (show nf < 2 ^ 31 by omega), u1]
    · rintro q ⟨_, J1⟩ hq ⟨rfl, c1, c2⟩
      dsimp only at c1 c2
      have hpq : (nI p = nI q) ↔ p = q := nI_eq (by omega) (by omega)
      have hwv := wr J1 c1 p q
      refine Or.inl ⟨(nI (q + 1), zu J1 (a + 8) (8 * p + q) (ini p q)), ?_, rfl, fun x hx => by dsimp only; rw [zu_row hx]; exact c1 x hx, fun i j h => ?_⟩
      · dsimp only
        rw [show ini p q = (if p = q then (0 : Int32) else if w p q ≤ 0 then 100000 else w p q) from rfl]
        by_cases e : p = q
        · subst e
          simp only [F_X2_measures_L17, ↓reduceIte, zg_true, zb1_e, zb2_e, zb3_e, zsum, zlet_e, nI_1, nI_ge hq (show nf < 2 ^ 31 by omega), ↓zka_eq k, decide_eq_true h6, f8, not_true_eq_false, ↓zka_eq k8, e8 p p (by omega) (by omega), z8 p p (by omega) (by omega), c8 p p (by omega) (by omega), d68]
        · by_cases c : w p q ≤ 0
          · simp only [F_X2_measures_L17, ↓reduceIte, zg_true, zb1_e, zb2_e, zb3_e, zsum, zlet_e, nI_1, nI_ge hq (show nf < 2 ^ 31 by omega), ↓zka_eq k, decide_eq_true h6, f8, hpq, e, not_false_eq_true, F_hr_ok k h6 f7 k7 (show p < 8 by omega) (show q < 8 by omega), hwv, c, ↓zka_eq k8, e8 p q (by omega) (by omega), z8 p q (by omega) (by omega), c8 p q (by omega) (by omega), d68]
          · simp only [F_X2_measures_L17, ↓reduceIte, zg_true, zb1_e, zb2_e, zb3_e, zsum, zlet_e, nI_1, nI_ge hq (show nf < 2 ^ 31 by omega), ↓zka_eq k, decide_eq_true h6, f8, f7, hpq, e, not_false_eq_true, F_hr_ok k h6 f7 k7 (show p < 8 by omega) (show q < 8 by omega), hwv, c, ↓zka_eq k8, ↓zka_eq k7, e8 p q (by omega) (by omega), z8 p q (by omega) (by omega), c8 p q (by omega) (by omega), d68, show ¬ (1 : Int32) = 0 by decide]
      · dsimp only
        by_cases e : i = p ∧ j = q
        · obtain ⟨rfl, rfl⟩ := e; exact zu_same
        · rw [zm8_u (by omega) (by omega) e]
          exact c2 i j (by omega)
    · rintro ⟨_, J1⟩ ⟨rfl, c1, c2⟩
      exact ⟨J1, by dsimp only; simp only [F_X2_measures_L17, ↓reduceIte, nI_le (Nat.le_refl (nf)) (show nf < 2 ^ 31 by omega)], c1, c2⟩
  · rintro ⟨_, J⟩ ⟨rfl, e1, e2⟩
    exact ⟨J, by dsimp only; simp only [F_X2_measures_L10, ↓reduceIte, nI_le (Nat.le_refl (nf)) (show nf < 2 ^ 31 by omega)], e1, e2⟩
end L30b
