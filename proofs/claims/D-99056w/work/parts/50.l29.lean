/-! L29: days from forest to forest: what they are; the model tells them -/
def znc (p : Nat → Bool) : Nat → Nat
  | 0 => 0
  | n + 1 => if p n = true then znc p n + 1 else znc p n
theorem znc_le (p : Nat → Bool) : ∀ n, znc p n ≤ n
  | 0 => Nat.le_refl _
  | n + 1 => by
    have := znc_le p n
    rw [znc]
    split <;> omega
theorem znc_mono {p q : Nat → Bool} : ∀ n, (∀ c, c < n → p c = true → q c = true) → znc p n ≤ znc q n
  | 0, _ => Nat.le_refl _
  | n + 1, h => by
    have := znc_mono n fun c hc => h c (by omega)
    rw [znc, znc]
    by_cases c : p n = true
    · rw [if_pos c, if_pos (h n (by omega) c)]; omega
    · rw [if_neg c]
      split <;> omega
theorem znc_lt {p q : Nat → Bool} : ∀ n, (∀ c, c < n → p c = true → q c = true) → ∀ e, e < n → p e = false → q e = true → znc p n < znc q n
  | 0, _, e, he, _, _ => by omega
  | n + 1, h, e, he, h1, h2 => by
    rw [znc, znc]
    by_cases c : e = n
    · subst c
      rw [h1, if_neg (by decide), if_pos h2]
      have := znc_mono e fun c hc => h c (by omega)
      omega
    · have := znc_lt n (fun c hc => h c (by omega)) e (by omega) h1 h2
      by_cases c2 : p n = true
      · rw [if_pos c2, if_pos (h n (by omega) c2)]; omega
      · rw [if_neg c2]
        split <;> omega
def zwd (n : Nat) (w : Nat → Nat → Int32) : Prop := ∀ a b, a < n → b < n → rg (w a b) 0 30
def isD (n : Nat) (w D : Nat → Nat → Int32) : Prop := (∀ a, a < n → (D a a).toInt = 0) ∧ (∀ a b, a < n → b < n → rg (D a b) 0 100000) ∧ (∀ a b c, a < n → b < n → c < n → 0 < (w b c).toInt → (D a c).toInt ≤ (D a b).toInt + (w b c).toInt) ∧ ∀ a b, a < n → b < n → (D a b).toInt = 100000 ∨ a = b ∨ ∃ p, p < n ∧ 0 < (w p b).toInt ∧ (D a b).toInt = (D a p).toInt + (w p b).toInt
def zrk (D : Nat → Nat → Int32) (a n b : Nat) : Nat := znc (fun c => decide ((D a c).toInt < (D a b).toInt)) n
theorem zrk_lt {D : Nat → Nat → Int32} {a n p b : Nat} (hp : p < n) (h : (D a p).toInt < (D a b).toInt) : zrk D a n p < zrk D a n b := by
  refine znc_lt n (fun c _ hc => ?_) p hp ?_ ?_
  · have := of_decide_eq_true hc
    exact decide_eq_true (by omega)
  · exact decide_eq_false (by omega)
  · exact decide_eq_true h
theorem zrk_n {D : Nat → Nat → Int32} {a n b : Nat} (hb : b < n) : zrk D a n b < n := by
  have : ∀ m (p : Nat → Bool), b < m → p b = false → znc p m < m := by
    intro m p
    induction m with
    | zero => intro h; omega
    | succ m ih =>
      intro h hp
      rw [znc]
      by_cases e : b = m
      · subst e
        rw [hp, if_neg (by decide)]
        have := znc_le p b
        omega
      · have := ih (by omega) hp
        split <;> omega
  exact this n _ hb (decide_eq_false (by omega))
/-- within round r, at the edge (p, q) -/
def zbf (n : Nat) (w D : Nat → Nat → Int32) (a r p q : Nat) (T : Nat → Int32) : Prop :=
  (∀ b, b < n → (D a b).toInt ≤ (T b).toInt ∧ (T b).toInt ≤ 100000 ∧ (b = a → (T b).toInt ≤ 0)) ∧ (∀ b, b < n → zrk D a n b ≤ r → (T b).toInt ≤ (D a b).toInt) ∧
  ∀ p' b, p' < n → b < n → (p' < p ∨ (p' = p ∧ b < q)) → zrk D a n p' ≤ r → 0 < (w p' b).toInt → (T b).toInt ≤ (D a p').toInt + (w p' b).toInt
section L29
variable {n : Nat} {w D : Nat → Nat → Int32} {a r p q : Nat} {T : Nat → Int32}
theorem zbf_upd (hw : zwd n w) (hD : isD n w D) (ha : a < n) (hp : p < n) (hq : q < n) (h : zbf n w D a r p q T) (hwp : 0 < (w p q).toInt) {T' : Nat → Int32} (h1 : ∀ b, b ≠ q → T' b = T b) (h2 : T' q = zmin (T q) (T p + w p q)) : zbf n w D a r p (q + 1) T' := by
  obtain ⟨g1, g2, g3⟩ := h
  have hw1 := hw p q hp hq
  have hd1 := hD.2.1 a p ha hp
  have hd2 := hD.2.1 a q ha hq
  have hd3 := hD.2.2.1 a p q ha hp hq hwp
  have gp := g1 p hp
  have gq := g1 q hq
  unfold rg at hw1 hd1 hd2
  have es : (T p + w p q).toInt = (T p).toInt + (w p q).toInt := i_add (by omega) (by omega)
  have e2 : (T' q).toInt = min (T q).toInt ((T p).toInt + (w p q).toInt) := by rw [h2, i_min, es]
  have hle : ∀ b, (T' b).toInt ≤ (T b).toInt := fun b => by
    by_cases e : b = q
    · rw [e, e2]; omega
    · rw [h1 b e]; exact Int.le_refl _
  refine ⟨fun b hb => ?_, fun b hb hr => Int.le_trans (hle b) (g2 b hb hr), fun p' b hp' hb hpb hr hw' => ?_⟩
  · obtain ⟨k1, k2, k3⟩ := g1 b hb
    have := hle b
    refine ⟨?_, by omega, fun e => by have := k3 e; omega⟩
    by_cases e : b = q
    · subst e; rw [e2]; omega
    · rw [h1 b e]; exact k1
  · by_cases e : p' = p ∧ b = q
    · obtain ⟨rfl, rfl⟩ := e
      have := g2 p' hp hr
      rw [e2]
      omega
    · exact Int.le_trans (hle b) (g3 p' b hp' hb (by omega) hr hw')
theorem zbf_skip (h : zbf n w D a r p q T) (hwp : ¬ 0 < (w p q).toInt) : zbf n w D a r p (q + 1) T := by
  refine ⟨h.1, h.2.1, fun p' b hp' hb hpb hr hw' => ?_⟩
  by_cases e : p' = p ∧ b = q
  · obtain ⟨rfl, rfl⟩ := e; exact absurd hw' hwp
  · exact h.2.2 p' b hp' hb (by omega) hr hw'
theorem zbf_row (h : zbf n w D a r p n T) : zbf n w D a r (p + 1) 0 T := ⟨h.1, h.2.1, fun p' b hp' hb hpb hr hw' => h.2.2 p' b hp' hb (by omega) hr hw'⟩
theorem zbf_round (hD : isD n w D) (ha : a < n) (h : zbf n w D a r n 0 T) : zbf n w D a (r + 1) 0 0 T := by
  refine ⟨h.1, fun b hb hr => ?_, fun p' b hp' hb hpb => by omega⟩
  obtain ⟨k1, k2, k3⟩ := h.1 b hb
  rcases hD.2.2.2 a b ha hb with e | e | ⟨p, hp, hw, e⟩
  · omega
  · have := k3 e.symm
    rw [← e] at this ⊢
    rw [hD.1 a ha]; exact this
  · have hlt : zrk D a n p < zrk D a n b := zrk_lt hp (by omega)
    have := h.2.2 p b hp hb (Or.inl hp) (by omega) hw
    omega
theorem zbf_end (h : zbf n w D a n 0 0 T) {b : Nat} (hb : b < n) : T b = D a b := by
  have h1 := (h.1 b hb).1
  have h2 := h.2.1 b hb (Nat.le_of_lt (zrk_n hb))
  exact i_ext (by omega)
end L29
section L29b
variable {I : zId} {P : zP} {X : zXd}
set_option maxHeartbeats 1000000 in
theorem F7_tell_days_ok (hQ : zMQ I P X) (hp : pInv P) (hw : zwd (pnf P) (xrv X)) (hD : isD (pnf P) (xrv X) (xds X)) {a : Nat} (ha : a < pnf P) : ∃ J, F_X7_tellDays (nI a) I = some J ∧ (∀ b, b < pnf P → J 1887 b = xds X a b) ∧ ∀ x, x ≠ 1887 → J x = I x := by
  have hnf := hp.1
  have hr : ∀ i j, i < pnf P → j < pnf P → ∀ J : zId, (∀ x, x ≠ 1887 → J x = I x) → J 1862 0 = nI (pnf P) ∧ J 1867 (8 * i + j) = xrv X i j := fun i j hi hj J h => ⟨by rw [h _ (by decide)]; exact hQ.1.1, by rw [h _ (by decide)]; exact hQ.2.2.2.2 i j hi hj⟩
  have s1 := zloop_up (body := fun s : Int32 × zId => F_X7_tellDays_L2 (nI a) s.1 s.2) (fun i s => s.1 = nI i ∧ (∀ x, x ≠ 1887 → s.2 x = I x) ∧ ∀ b, b < i → s.2 1887 b = if b = a then 0 else 100000) (fun t => (∀ x, x ≠ 1887 → t x = I x) ∧ ∀ b, b < 8 → t 1887 b = if b = a then 0 else 100000) 8 ?_ ?_ 0 (0, I) (Nat.zero_le _) ⟨rfl, fun _ _ => rfl, fun b h => absurd h (Nat.not_lt_zero b)⟩
  · obtain ⟨J0, t1, t2, t3⟩ := s1
    have z0 : zbf (pnf P) (xrv X) (xds X) a 0 0 0 (J0 1887) := by
      have hT : ∀ b, b < pnf P → (J0 1887 b).toInt = if b = a then 0 else 100000 := fun b hb => by
        rw [t3 b (by omega)]
        split <;> rfl
      refine ⟨fun b hb => ?_, fun b hb hrk => ?_, fun p' b _ _ h => by omega⟩
      · have h1 := hD.2.1 a b ha hb
        unfold rg at h1
        rw [hT b hb]
        by_cases e : b = a
        · rw [if_pos e, e, hD.1 a ha]; omega
        · rw [if_neg e]; omega
      · rw [hT b hb]
        by_cases e : b = a
        · rw [if_pos e]; exact (hD.2.1 a b ha hb).1
        · rw [if_neg e]
          rcases hD.2.2.2 a b ha hb with e2 | e2 | ⟨p, hp', hw', e2⟩
          · omega
          · exact absurd e2.symm e
          · have := zrk_lt (D := xds X) (a := a) (n := pnf P) (p := p) (b := b) hp' (by omega)
            omega
    have s2 := zloop_up (body := fun s : Int32 × zId => F_X7_tellDays_L33 s.1 s.2) (fun r s => s.1 = nI r ∧ (∀ x, x ≠ 1887 → s.2 x = I x) ∧ zbf (pnf P) (xrv X) (xds X) a r 0 0 (s.2 1887)) (fun t => (∀ x, x ≠ 1887 → t x = I x) ∧ zbf (pnf P) (xrv X) (xds X) a (pnf P) 0 0 (t 1887)) (pnf P) ?_ ?_ 0 (0, J0) (Nat.zero_le _) ⟨rfl, t2, z0⟩
    · obtain ⟨J, u1, u2, u3⟩ := s2
      exact ⟨J, by simp only [F_X7_tellDays, t1, u1, zb1_e], fun b hb => zbf_end u3 hb, u2⟩
    · rintro r ⟨_, J⟩ hr' ⟨rfl, e1, e2⟩
      dsimp only at e1 e2
      have s3 := zloop_up (body := fun s : Int32 × zId => F_X7_tellDays_L45 s.1 s.2) (fun p s => s.1 = nI p ∧ (∀ x, x ≠ 1887 → s.2 x = I x) ∧ zbf (pnf P) (xrv X) (xds X) a r p 0 (s.2 1887)) (fun t => (∀ x, x ≠ 1887 → t x = I x) ∧ zbf (pnf P) (xrv X) (xds X) a r (pnf P) 0 (t 1887)) (pnf P) ?_ ?_ 0 (0, J) (Nat.zero_le _) ⟨rfl, e1, e2⟩
      · obtain ⟨J1, u1, u2, u3⟩ := s3
        refine Or.inl ⟨(nI (r + 1), J1), ?_, rfl, u2, zbf_round hD ha u3⟩
        dsimp only
        simp only [F_X7_tellDays_L33, (hr a a ha ha J e1).1, nI_ge hr' (show pnf P < 2 ^ 31 by omega), u1, ↓reduceIte, zg_true, zb1_e, zb2_e, zb3_e, zsum, zlet_e, nI_1]
      · rintro p ⟨_, J1⟩ hp' ⟨rfl, d1, d2⟩
        dsimp only at d1 d2
        have s4 := zloop_up (body := fun s : Int32 × zId => F_X7_tellDays_L58 (nI p) s.1 s.2) (fun q s => s.1 = nI q ∧ (∀ x, x ≠ 1887 → s.2 x = I x) ∧ zbf (pnf P) (xrv X) (xds X) a r p q (s.2 1887)) (fun t => (∀ x, x ≠ 1887 → t x = I x) ∧ zbf (pnf P) (xrv X) (xds X) a r p (pnf P) (t 1887)) (pnf P) ?_ ?_ 0 (0, J1) (Nat.zero_le _) ⟨rfl, d1, d2⟩
        · obtain ⟨J2, u1, u2, u3⟩ := s4
          refine Or.inl ⟨(nI (p + 1), J2), ?_, rfl, u2, zbf_row u3⟩
          dsimp only
          simp only [F_X7_tellDays_L45, (hr a a ha ha J1 d1).1, nI_ge hp' (show pnf P < 2 ^ 31 by omega), u1, ↓reduceIte, zg_true, zb1_e, zb2_e, zb3_e, zsum, zlet_e, nI_1]
        · rintro q ⟨_, J2⟩ hq ⟨rfl, c1, c2⟩
          dsimp only at c1 c2
          obtain ⟨k1, k2⟩ := hr p q hp' hq J2 c1
          have e8 : (8 : Int32) * nI p + nI q = nI (8 * p + q) := by rw [show (8 : Int32) * nI p = nI (8 * p) from nI_mul (a := 8) (by omega) (by decide) (by omega), nI_add]
          by_cases c : xrv X p q ≤ 0
          · refine Or.inl ⟨(nI (q + 1), J2), ?_, rfl, c1, zbf_skip c2 (by have := iLe.mp c; rw [i_0] at this; omega)⟩
            dsimp only
            simp only [F_X7_tellDays_L58, k1, nI_ge hq (show pnf P < 2 ^ 31 by omega), e8, zin_n (show 8 * p + q < 128 by omega), nI_c (show 8 * p + q < 2147483648 by omega), ↓reduceIte, zg_true, zb1_e, zb2_e, zb3_e, zsum, zlet_e, nI_1, k2, c]
          · refine Or.inl ⟨(nI (q + 1), zu J2 1887 q (zmin (J2 1887 q) (J2 1887 p + xrv X p q))), ?_, rfl, fun x hx => by dsimp only; rw [zu_row hx]; exact c1 x hx, zbf_upd hw hD ha hp' hq c2 (by have := mt iLe.mpr c; rw [i_0] at this; omega) (fun b hb => zu_off fun e => hb e.2) zu_same⟩
            dsimp only
            simp only [F_X7_tellDays_L58, k1, nI_ge hq (show pnf P < 2 ^ 31 by omega), e8, zin_n (show 8 * p + q < 128 by omega), nI_c (show 8 * p + q < 2147483648 by omega), ↓reduceIte, zg_true, zb1_e, zb2_e, zb3_e, zsum, zlet_e, nI_1, k2, c, zin_n (show q < 8 by omega), nI_c (show q < 2147483648 by omega), zin_n (show p < 8 by omega), nI_c (show p < 2147483648 by omega)]
        · rintro ⟨_, J2⟩ ⟨rfl, c1, c2⟩
          have k1 := (hr a a ha ha J2 c1).1
          exact ⟨J2, by dsimp only; simp only [F_X7_tellDays_L58, k1, ↓reduceIte, nI_le (Nat.le_refl (pnf P)) (show pnf P < 2 ^ 31 by omega)], c1, c2⟩
      · rintro ⟨_, J1⟩ ⟨rfl, d1, d2⟩
        have k1 := (hr a a ha ha J1 d1).1
        exact ⟨J1, by dsimp only; simp only [F_X7_tellDays_L45, k1, ↓reduceIte, nI_le (Nat.le_refl (pnf P)) (show pnf P < 2 ^ 31 by omega)], d1, d2⟩
    · rintro ⟨_, J⟩ ⟨rfl, e1, e2⟩
      have k1 := (hr a a ha ha J e1).1
      exact ⟨J, by dsimp only; simp only [F_X7_tellDays_L33, k1, ↓reduceIte, nI_le (Nat.le_refl (pnf P)) (show pnf P < 2 ^ 31 by omega)], e1, e2⟩
  · rintro i ⟨_, J⟩ hi ⟨rfl, e1, e2⟩
    dsimp only at e1 e2
    have hia : (nI i = nI a) ↔ i = a := nI_eq (by omega) (by omega)
    refine Or.inl ⟨(nI (i + 1), zu J 1887 i (if i = a then 0 else 100000)), ?_, rfl, fun x hx => by dsimp only; rw [zu_row hx]; exact e1 x hx, fun b hb => ?_⟩
    · dsimp only
      by_cases c : i = a
      · subst c
        simp only [F_X7_tellDays_L2, ↓reduceIte, zg_true, zb1_e, zb2_e, zb3_e, zsum, zlet_e, nI_1, show ¬ (8 : Int32) ≤ nI i from nI_ge hi (by decide), not_true_eq_false, zin_n (show i < 8 by omega), nI_c (show i < 2147483648 by omega)]
      · simp only [F_X7_tellDays_L2, ↓reduceIte, zg_true, zb1_e, zb2_e, zb3_e, zsum, zlet_e, nI_1, show ¬ (8 : Int32) ≤ nI i from nI_ge hi (by decide), hia, c, not_false_eq_true, zin_n (show i < 8 by omega), nI_c (show i < 2147483648 by omega)]
    · dsimp only
      by_cases e : b = i
      · rw [e, zu_same]
      · rw [zu_off fun q => e q.2]; exact e2 b (by omega)
  · rintro ⟨_, J⟩ ⟨rfl, e1, e2⟩
    exact ⟨J, rfl, e1, e2⟩
theorem F7_farOf_ok (hQ : zMQ I P X) (hp : pInv P) (hw : zwd (pnf P) (xrv X)) (hD : isD (pnf P) (xrv X) (xds X)) {a b : Nat} (ha : a < pnf P) (hb : b < pnf P) : ∃ J, F_X7_farOf (nI a) (nI b) I = some (xds X a b, J) ∧ ∀ x, x ≠ 1887 → J x = I x := by
  have hnf := hp.1
  obtain ⟨J, h1, h2, h3⟩ := F7_tell_days_ok hQ hp hw hD ha
  exact ⟨J, by simp only [F_X7_farOf, h1, ↓reduceIte, zg_true, zb1_e, zb2_e, zb3_e, zsum, zlet_e, nI_1, zin_n (show b < 8 by omega), nI_c (show b < 2147483648 by omega), h2 b hb], h3⟩
end L29b
