/-! L52: what the law's catchers answer (printed by mkops.py) -/
def q1 (q : Int32 ⊕ Nat) : Prop := ∀ c, q = .inr c → c = 1
def q12 (q : Int32 ⊕ Nat) : Prop := ∀ c, q = .inr c → c = 1 ∨ c = 2
theorem q1_l {v : Int32} : q1 (.inl v) := fun c h => nomatch h
theorem q12_l {v : Int32} : q12 (.inl v) := fun c h => nomatch h
theorem q1_r : q1 (.inr 1) := fun c h => by cases h; rfl
theorem q12_r1 : q12 (.inr 1) := fun c h => by cases h; exact Or.inl rfl
theorem q12_r2 : q12 (.inr 2) := fun c h => by cases h; exact Or.inr rfl
theorem q1_fa {n : Nat} {x : Int32} {f : Nat → Int32 ⊕ Nat} (h : ∀ k, q1 (f k)) : q1 (q_fa n x f) := by
  unfold q_fa
  split
  · exact q1_r
  · exact h _
theorem q12_fa {n : Nat} {x : Int32} {f : Nat → Int32 ⊕ Nat} (h : ∀ k, q12 (f k)) : q12 (q_fa n x f) := by
  unfold q_fa
  split
  · exact q12_r1
  · exact h _
theorem q1_in {n : Nat} {x : Int32} {f : Nat → Int32 ⊕ Nat} (h : ∀ k, q1 (f k)) : q1 (q_in x n 1 f) := by
  unfold q_in
  split
  · exact q1_r
  · exact h _
theorem q12_in1 {n : Nat} {x : Int32} {f : Nat → Int32 ⊕ Nat} (h : ∀ k, q12 (f k)) : q12 (q_in x n 1 f) := by
  unfold q_in
  split
  · exact q12_r1
  · exact h _
theorem q12_in2 {n : Nat} {x : Int32} {f : Nat → Int32 ⊕ Nat} (h : ∀ k, q12 (f k)) : q12 (q_in x n 2 f) := by
  unfold q_in
  split
  · exact q12_r2
  · exact h _
theorem q12_i1 {n : Nat} {x : Int32} {f : Nat → Int32 ⊕ Nat} (h : ∀ k, q12 (f k)) : q12 (q_i1 x n 2 f) := by
  unfold q_i1
  split
  · exact q12_r2
  · exact h _
/-- the long that is laid out -/
def qL (L : zLd) (q : Int32 ⊕ Nat) : zLd := match q with
  | .inl v => zu L 1902 0 v.toInt64
  | .inr _ => L
theorem zpay_1 {a : Type} (c1 c2 : Nat) (y : a) : zpay (c1, c2) (some ((0, 0), y)) = some ((c1, c2), y) := by
  unfold zpay
  simp
theorem zx_t {α : Type} (x y : Option α) : zx true x y = x := rfl
theorem zx_f {α : Type} (x y : Option α) : zx false x y = y := rfl
section L52
variable {K : zKd} {F F' : zFd} {I J : zId} {L : zLd} {n : Nat}
theorem zin_0 : zin 0 1 = true := by decide
theorem d1902 : decide (600 ≤ 1902) = true := by decide
theorem dNI : decide ("java/lang/IllegalArgumentException" = "java/util/NoSuchElementException") = false := by decide
theorem F_X0_then_c (x y : Int32) {q : Int32 ⊕ Nat} (k0 : K 1000 = some (0, 0)) (k2 : K 1902 = some (67, 1)) (hq : q12 q) (e : F_X1_then K F 1000 x y I = some (qC q, J)) : F_X0_then 1000 x y 1902 (n, K, F, I, L) = some (qcc q, (qE q, (n, K, F, J, qL L q))) := by
  cases q with
  | inl r =>
    simp only [F_X0_then, hK, jF, hI, hN, hL, zsFI, zsL, zsI, zsF, ↓zka_eq k0, ↓zka_eq k2, zb2_e, zc1_e, zn2, zlet_e, zsum, zg_true, zin_0, d1902, zpay_1, zpay_e, (zxc_l _).1, (zxc_l _).2, zxc_1, zxs_1, qC, qC', qE, qL, qcc, ↓reduceIte, decide_true, zx_t, zx_f, e]
  | inr c =>
    rcases hq c rfl with rfl | rfl
    · simp only [F_X0_then, hK, jF, hI, hN, hL, zsFI, zsL, zsI, zsF, ↓zka_eq k0, ↓zka_eq k2, zb2_e, zc1_e, zn2, zlet_e, zsum, zg_true, zin_0, d1902, zpay_1, zpay_e, (zxc_l _).1, (zxc_l _).2, zxc_1, zxs_1, qC, qC', qE, qL, qcc, ↓reduceIte, decide_true, zx_t, zx_f, e]
      rfl
    · simp only [F_X0_then, hK, jF, hI, hN, hL, zsFI, zsL, zsI, zsF, ↓zka_eq k0, ↓zka_eq k2, zb2_e, zc1_e, zn2, zlet_e, zsum, zg_true, zin_0, d1902, zpay_1, zpay_e, (zxc_l _).1, (zxc_l _).2, zxc_1, zxs_1, qC, qC', qE, qL, qcc, ↓reduceIte, decide_true, zx_t, zx_f, e, show ¬ 2 = 1 by decide, dNI]
      rfl
theorem F_X0_empty_c (x : Int32) {q : Int32 ⊕ Nat} (k0 : K 1000 = some (0, 0)) (k2 : K 1902 = some (67, 1)) (hq : q1 q) (e : F_X1_empty K F 1000 x I = some (qC q, J)) : F_X0_empty 1000 x 1902 (n, K, F, I, L) = some (qcc q, (qE q, (n, K, F, J, qL L q))) := by
  cases q with
  | inl r =>
    simp only [F_X0_empty, hK, jF, hI, hN, hL, zsFI, zsL, zsI, zsF, ↓zka_eq k0, ↓zka_eq k2, zb2_e, zc1_e, zn2, zlet_e, zsum, zg_true, zin_0, d1902, zpay_1, zpay_e, (zxc_l _).1, (zxc_l _).2, zxc_1, zxs_1, qC, qC', qE, qL, qcc, ↓reduceIte, decide_true, zx_t, zx_f, e]
  | inr c =>
    obtain rfl := hq c rfl
    simp only [F_X0_empty, hK, jF, hI, hN, hL, zsFI, zsL, zsI, zsF, ↓zka_eq k0, ↓zka_eq k2, zb2_e, zc1_e, zn2, zlet_e, zsum, zg_true, zin_0, d1902, zpay_1, zpay_e, (zxc_l _).1, (zxc_l _).2, zxc_1, zxs_1, qC, qC', qE, qL, qcc, ↓reduceIte, decide_true, zx_t, zx_f, e]
    rfl
theorem F_X0_paid_c (x y : Int32) {q : Int32 ⊕ Nat} (k0 : K 1000 = some (0, 0)) (k2 : K 1902 = some (67, 1)) (hq : q12 q) (e : F_X1_paid K F 1000 x y I = some (qC q, J)) : F_X0_paid 1000 x y 1902 (n, K, F, I, L) = some (qcc q, (qE q, (n, K, F, J, qL L q))) := by
  cases q with
  | inl r =>
    simp only [F_X0_paid, hK, jF, hI, hN, hL, zsFI, zsL, zsI, zsF, ↓zka_eq k0, ↓zka_eq k2, zb2_e, zc1_e, zn2, zlet_e, zsum, zg_true, zin_0, d1902, zpay_1, zpay_e, (zxc_l _).1, (zxc_l _).2, zxc_1, zxs_1, qC, qC', qE, qL, qcc, ↓reduceIte, decide_true, zx_t, zx_f, e]
  | inr c =>
    rcases hq c rfl with rfl | rfl
    · simp only [F_X0_paid, hK, jF, hI, hN, hL, zsFI, zsL, zsI, zsF, ↓zka_eq k0, ↓zka_eq k2, zb2_e, zc1_e, zn2, zlet_e, zsum, zg_true, zin_0, d1902, zpay_1, zpay_e, (zxc_l _).1, (zxc_l _).2, zxc_1, zxs_1, qC, qC', qE, qL, qcc, ↓reduceIte, decide_true, zx_t, zx_f, e]
      rfl
    · simp only [F_X0_paid, hK, jF, hI, hN, hL, zsFI, zsL, zsI, zsF, ↓zka_eq k0, ↓zka_eq k2, zb2_e, zc1_e, zn2, zlet_e, zsum, zg_true, zin_0, d1902, zpay_1, zpay_e, (zxc_l _).1, (zxc_l _).2, zxc_1, zxs_1, qC, qC', qE, qL, qcc, ↓reduceIte, decide_true, zx_t, zx_f, e, show ¬ 2 = 1 by decide, dNI]
      rfl
theorem F_X0_hostages_c (x : Int32) {q : Int32 ⊕ Nat} (k0 : K 1000 = some (0, 0)) (k2 : K 1902 = some (67, 1)) (hq : q1 q) (e : F_X1_hostages K F 1000 x I = some (qC' q, J)) : F_X0_hostages 1000 x 1902 (n, K, F, I, L) = some (qcc q, (qE q, (n, K, F, J, qL L q))) := by
  cases q with
  | inl r =>
    simp only [F_X0_hostages, hK, jF, hI, hN, hL, zsFI, zsL, zsI, zsF, ↓zka_eq k0, ↓zka_eq k2, zb2_e, zc1_e, zn2, zlet_e, zsum, zg_true, zin_0, d1902, zpay_1, zpay_e, (zxc_l _).1, (zxc_l _).2, zxc_1, zxs_1, qC, qC', qE, qL, qcc, ↓reduceIte, decide_true, zx_t, zx_f, e]
  | inr c =>
    obtain rfl := hq c rfl
    simp only [F_X0_hostages, hK, jF, hI, hN, hL, zsFI, zsL, zsI, zsF, ↓zka_eq k0, ↓zka_eq k2, zb2_e, zc1_e, zn2, zlet_e, zsum, zg_true, zin_0, d1902, zpay_1, zpay_e, (zxc_l _).1, (zxc_l _).2, zxc_1, zxs_1, qC, qC', qE, qL, qcc, ↓reduceIte, decide_true, zx_t, zx_f, e]
    rfl
theorem F_X0_owing_c (x : Int32) {q : Int32 ⊕ Nat} (k0 : K 1000 = some (0, 0)) (k2 : K 1902 = some (67, 1)) (hq : q1 q) (e : F_X1_owing K F 1000 x I = some (qC' q, J)) : F_X0_owing 1000 x 1902 (n, K, F, I, L) = some (qcc q, (qE q, (n, K, F, J, qL L q))) := by
  cases q with
  | inl r =>
    simp only [F_X0_owing, hK, jF, hI, hN, hL, zsFI, zsL, zsI, zsF, ↓zka_eq k0, ↓zka_eq k2, zb2_e, zc1_e, zn2, zlet_e, zsum, zg_true, zin_0, d1902, zpay_1, zpay_e, (zxc_l _).1, (zxc_l _).2, zxc_1, zxs_1, qC, qC', qE, qL, qcc, ↓reduceIte, decide_true, zx_t, zx_f, e]
  | inr c =>
    obtain rfl := hq c rfl
    simp only [F_X0_owing, hK, jF, hI, hN, hL, zsFI, zsL, zsI, zsF, ↓zka_eq k0, ↓zka_eq k2, zb2_e, zc1_e, zn2, zlet_e, zsum, zg_true, zin_0, d1902, zpay_1, zpay_e, (zxc_l _).1, (zxc_l _).2, zxc_1, zxs_1, qC, qC', qE, qL, qcc, ↓reduceIte, decide_true, zx_t, zx_f, e]
    rfl
theorem F_X0_lastBlack_c (x : Int32) {q : Int32 ⊕ Nat} (k0 : K 1000 = some (0, 0)) (k2 : K 1902 = some (67, 1)) (hq : q1 q) (e : F_X1_lastBlack K F 1000 x I = some (qC q, J)) : F_X0_lastBlack 1000 x 1902 (n, K, F, I, L) = some (qcc q, (qE q, (n, K, F, J, qL L q))) := by
  cases q with
  | inl r =>
    simp only [F_X0_lastBlack, hK, jF, hI, hN, hL, zsFI, zsL, zsI, zsF, ↓zka_eq k0, ↓zka_eq k2, zb2_e, zc1_e, zn2, zlet_e, zsum, zg_true, zin_0, d1902, zpay_1, zpay_e, (zxc_l _).1, (zxc_l _).2, zxc_1, zxs_1, qC, qC', qE, qL, qcc, ↓reduceIte, decide_true, zx_t, zx_f, e]
  | inr c =>
    obtain rfl := hq c rfl
    simp only [F_X0_lastBlack, hK, jF, hI, hN, hL, zsFI, zsL, zsI, zsF, ↓zka_eq k0, ↓zka_eq k2, zb2_e, zc1_e, zn2, zlet_e, zsum, zg_true, zin_0, d1902, zpay_1, zpay_e, (zxc_l _).1, (zxc_l _).2, zxc_1, zxs_1, qC, qC', qE, qL, qcc, ↓reduceIte, decide_true, zx_t, zx_f, e]
    rfl
theorem F_X0_forEver_c (x : Int32) {q : Int32 ⊕ Nat} (k0 : K 1000 = some (0, 0)) (k2 : K 1902 = some (67, 1)) (hq : q1 q) (e : F_X1_forEver K F 1000 x I = some (qC q, J)) : F_X0_forEver 1000 x 1902 (n, K, F, I, L) = some (qcc q, (qE q, (n, K, F, J, qL L q))) := by
  cases q with
  | inl r =>
    simp only [F_X0_forEver, hK, jF, hI, hN, hL, zsFI, zsL, zsI, zsF, ↓zka_eq k0, ↓zka_eq k2, zb2_e, zc1_e, zn2, zlet_e, zsum, zg_true, zin_0, d1902, zpay_1, zpay_e, (zxc_l _).1, (zxc_l _).2, zxc_1, zxs_1, qC, qC', qE, qL, qcc, ↓reduceIte, decide_true, zx_t, zx_f, e]
  | inr c =>
    obtain rfl := hq c rfl
    simp only [F_X0_forEver, hK, jF, hI, hN, hL, zsFI, zsL, zsI, zsF, ↓zka_eq k0, ↓zka_eq k2, zb2_e, zc1_e, zn2, zlet_e, zsum, zg_true, zin_0, d1902, zpay_1, zpay_e, (zxc_l _).1, (zxc_l _).2, zxc_1, zxs_1, qC, qC', qE, qL, qcc, ↓reduceIte, decide_true, zx_t, zx_f, e]
    rfl
theorem F_X0_resting_c (x y : Int32) {q : Int32 ⊕ Nat} (k0 : K 1000 = some (0, 0)) (k2 : K 1902 = some (67, 1)) (hq : q12 q) (e : F_X1_resting K F 1000 x y I = some (qC q, J)) : F_X0_resting 1000 x y 1902 (n, K, F, I, L) = some (qcc q, (qE q, (n, K, F, J, qL L q))) := by
  cases q with
  | inl r =>
    simp only [F_X0_resting, hK, jF, hI, hN, hL, zsFI, zsL, zsI, zsF, ↓zka_eq k0, ↓zka_eq k2, zb2_e, zc1_e, zn2, zlet_e, zsum, zg_true, zin_0, d1902, zpay_1, zpay_e, (zxc_l _).1, (zxc_l _).2, zxc_1, zxs_1, qC, qC', qE, qL, qcc, ↓reduceIte, decide_true, zx_t, zx_f, e]
  | inr c =>
    rcases hq c rfl with rfl | rfl
    · simp only [F_X0_resting, hK, jF, hI, hN, hL, zsFI, zsL, zsI, zsF, ↓zka_eq k0, ↓zka_eq k2, zb2_e, zc1_e, zn2, zlet_e, zsum, zg_true, zin_0, d1902, zpay_1, zpay_e, (zxc_l _).1, (zxc_l _).2, zxc_1, zxs_1, qC, qC', qE, qL, qcc, ↓reduceIte, decide_true, zx_t, zx_f, e]
      rfl
    · simp only [F_X0_resting, hK, jF, hI, hN, hL, zsFI, zsL, zsI, zsF, ↓zka_eq k0, ↓zka_eq k2, zb2_e, zc1_e, zn2, zlet_e, zsum, zg_true, zin_0, d1902, zpay_1, zpay_e, (zxc_l _).1, (zxc_l _).2, zxc_1, zxs_1, qC, qC', qE, qL, qcc, ↓reduceIte, decide_true, zx_t, zx_f, e, show ¬ 2 = 1 by decide, dNI]
      rfl
theorem F_X0_far_c (x y : Int32) {q : Int32 ⊕ Nat} (k0 : K 1000 = some (0, 0)) (k2 : K 1902 = some (67, 1)) (hq : q1 q) (e : F_X1_far K F 1000 x y I = some (qC q, J)) : F_X0_far 1000 x y 1902 (n, K, F, I, L) = some (qcc q, (qE q, (n, K, F, J, qL L q))) := by
  cases q with
  | inl r =>
    simp only [F_X0_far, hK, jF, hI, hN, hL, zsFI, zsL, zsI, zsF, ↓zka_eq k0, ↓zka_eq k2, zb2_e, zc1_e, zn2, zlet_e, zsum, zg_true, zin_0, d1902, zpay_1, zpay_e, (zxc_l _).1, (zxc_l _).2, zxc_1, zxs_1, qC, qC', qE, qL, qcc, ↓reduceIte, decide_true, zx_t, zx_f, e]
  | inr c =>
    obtain rfl := hq c rfl
    simp only [F_X0_far, hK, jF, hI, hN, hL, zsFI, zsL, zsI, zsF, ↓zka_eq k0, ↓zka_eq k2, zb2_e, zc1_e, zn2, zlet_e, zsum, zg_true, zin_0, d1902, zpay_1, zpay_e, (zxc_l _).1, (zxc_l _).2, zxc_1, zxs_1, qC, qC', qE, qL, qcc, ↓reduceIte, decide_true, zx_t, zx_f, e]
    rfl
theorem F_X0_round_c (x : Int32) {q : Int32 ⊕ Nat} (k0 : K 1000 = some (0, 0)) (k2 : K 1902 = some (67, 1)) (hq : q1 q) (e : F_X1_round K F 1000 x I = some (qC q, J)) : F_X0_round 1000 x 1902 (n, K, F, I, L) = some (qcc q, (qE q, (n, K, F, J, qL L q))) := by
  cases q with
  | inl r =>
    simp only [F_X0_round, hK, jF, hI, hN, hL, zsFI, zsL, zsI, zsF, ↓zka_eq k0, ↓zka_eq k2, zb2_e, zc1_e, zn2, zlet_e, zsum, zg_true, zin_0, d1902, zpay_1, zpay_e, (zxc_l _).1, (zxc_l _).2, zxc_1, zxs_1, qC, qC', qE, qL, qcc, ↓reduceIte, decide_true, zx_t, zx_f, e]
  | inr c =>
    obtain rfl := hq c rfl
    simp only [F_X0_round, hK, jF, hI, hN, hL, zsFI, zsL, zsI, zsF, ↓zka_eq k0, ↓zka_eq k2, zb2_e, zc1_e, zn2, zlet_e, zsum, zg_true, zin_0, d1902, zpay_1, zpay_e, (zxc_l _).1, (zxc_l _).2, zxc_1, zxs_1, qC, qC', qE, qL, qcc, ↓reduceIte, decide_true, zx_t, zx_f, e]
    rfl
theorem F_X0_first_c (x : Int32) {q : Int32 ⊕ Nat} (k0 : K 1000 = some (0, 0)) (k2 : K 1902 = some (67, 1)) (hq : q1 q) (e : F_X1_first K F 1000 x I = some (qC q, J)) : F_X0_first 1000 x 1902 (n, K, F, I, L) = some (qcc q, (qE q, (n, K, F, J, qL L q))) := by
  cases q with
  | inl r =>
    simp only [F_X0_first, hK, jF, hI, hN, hL, zsFI, zsL, zsI, zsF, ↓zka_eq k0, ↓zka_eq k2, zb2_e, zc1_e, zn2, zlet_e, zsum, zg_true, zin_0, d1902, zpay_1, zpay_e, (zxc_l _).1, (zxc_l _).2, zxc_1, zxs_1, qC, qC', qE, qL, qcc, ↓reduceIte, decide_true, zx_t, zx_f, e]
  | inr c =>
    obtain rfl := hq c rfl
    simp only [F_X0_first, hK, jF, hI, hN, hL, zsFI, zsL, zsI, zsF, ↓zka_eq k0, ↓zka_eq k2, zb2_e, zc1_e, zn2, zlet_e, zsum, zg_true, zin_0, d1902, zpay_1, zpay_e, (zxc_l _).1, (zxc_l _).2, zxc_1, zxs_1, qC, qC', qE, qL, qcc, ↓reduceIte, decide_true, zx_t, zx_f, e]
    rfl
theorem F_X0_meeting_c (x y w : Int32) {q : Int32 ⊕ Nat} (k0 : K 1000 = some (0, 0)) (k2 : K 1902 = some (67, 1)) (hq : q1 q) (e : F_X1_meeting K F 1000 x y w I = some (qC q, J)) : F_X0_meeting 1000 x y w 1902 (n, K, F, I, L) = some (qcc q, (qE q, (n, K, F, J, qL L q))) := by
  cases q with
  | inl r =>
    simp only [F_X0_meeting, hK, jF, hI, hN, hL, zsFI, zsL, zsI, zsF, ↓zka_eq k0, ↓zka_eq k2, zb2_e, zc1_e, zn2, zlet_e, zsum, zg_true, zin_0, d1902, zpay_1, zpay_e, (zxc_l _).1, (zxc_l _).2, zxc_1, zxs_1, qC, qC', qE, qL, qcc, ↓reduceIte, decide_true, zx_t, zx_f, e]
  | inr c =>
    obtain rfl := hq c rfl
    simp only [F_X0_meeting, hK, jF, hI, hN, hL, zsFI, zsL, zsI, zsF, ↓zka_eq k0, ↓zka_eq k2, zb2_e, zc1_e, zn2, zlet_e, zsum, zg_true, zin_0, d1902, zpay_1, zpay_e, (zxc_l _).1, (zxc_l _).2, zxc_1, zxs_1, qC, qC', qE, qL, qcc, ↓reduceIte, decide_true, zx_t, zx_f, e]
    rfl
theorem F_X0_where_c (x y w : Int32) {q : Int32 ⊕ Nat} (k0 : K 1000 = some (0, 0)) (k2 : K 1902 = some (67, 1)) (hq : q12 q) (e : F_X1_where K F 1000 x y w I = some (qC q, J)) : F_X0_where 1000 x y w 1902 (n, K, F, I, L) = some (qcc q, (qE q, (n, K, F, J, qL L q))) := by
  cases q with
  | inl r =>
    simp only [F_X0_where, hK, jF, hI, hN, hL, zsFI, zsL, zsI, zsF, ↓zka_eq k0, ↓zka_eq k2, zb2_e, zc1_e, zn2, zlet_e, zsum, zg_true, zin_0, d1902, zpay_1, zpay_e, (zxc_l _).1, (zxc_l _).2, zxc_1, zxs_1, qC, qC', qE, qL, qcc, ↓reduceIte, decide_true, zx_t, zx_f, e]
  | inr c =>
    rcases hq c rfl with rfl | rfl
    · simp only [F_X0_where, hK, jF, hI, hN, hL, zsFI, zsL, zsI, zsF, ↓zka_eq k0, ↓zka_eq k2, zb2_e, zc1_e, zn2, zlet_e, zsum, zg_true, zin_0, d1902, zpay_1, zpay_e, (zxc_l _).1, (zxc_l _).2, zxc_1, zxs_1, qC, qC', qE, qL, qcc, ↓reduceIte, decide_true, zx_t, zx_f, e]
      rfl
    · simp only [F_X0_where, hK, jF, hI, hN, hL, zsFI, zsL, zsI, zsF, ↓zka_eq k0, ↓zka_eq k2, zb2_e, zc1_e, zn2, zlet_e, zsum, zg_true, zin_0, d1902, zpay_1, zpay_e, (zxc_l _).1, (zxc_l _).2, zxc_1, zxs_1, qC, qC', qE, qL, qcc, ↓reduceIte, decide_true, zx_t, zx_f, e, show ¬ 2 = 1 by decide, dNI]
      rfl
theorem F_X0_counted_c (x y : Int32) {q : Int32 ⊕ Nat} (k0 : K 1000 = some (0, 0)) (k2 : K 1902 = some (67, 1)) (hq : q12 q) (e : F_X1_counted K F 1000 x y I = some (qC q, J)) : F_X0_counted 1000 x y 1902 (n, K, F, I, L) = some (qcc q, (qE q, (n, K, F, J, qL L q))) := by
  cases q with
  | inl r =>
    simp only [F_X0_counted, hK, jF, hI, hN, hL, zsFI, zsL, zsI, zsF, ↓zka_eq k0, ↓zka_eq k2, zb2_e, zc1_e, zn2, zlet_e, zsum, zg_true, zin_0, d1902, zpay_1, zpay_e, (zxc_l _).1, (zxc_l _).2, zxc_1, zxs_1, qC, qC', qE, qL, qcc, ↓reduceIte, decide_true, zx_t, zx_f, e]
  | inr c =>
    rcases hq c rfl with rfl | rfl
    · simp only [F_X0_counted, hK, jF, hI, hN, hL, zsFI, zsL, zsI, zsF, ↓zka_eq k0, ↓zka_eq k2, zb2_e, zc1_e, zn2, zlet_e, zsum, zg_true, zin_0, d1902, zpay_1, zpay_e, (zxc_l _).1, (zxc_l _).2, zxc_1, zxs_1, qC, qC', qE, qL, qcc, ↓reduceIte, decide_true, zx_t, zx_f, e]
      rfl
    · simp only [F_X0_counted, hK, jF, hI, hN, hL, zsFI, zsL, zsI, zsF, ↓zka_eq k0, ↓zka_eq k2, zb2_e, zc1_e, zn2, zlet_e, zsum, zg_true, zin_0, d1902, zpay_1, zpay_e, (zxc_l _).1, (zxc_l _).2, zxc_1, zxs_1, qC, qC', qE, qL, qcc, ↓reduceIte, decide_true, zx_t, zx_f, e, show ¬ 2 = 1 by decide, dNI]
      rfl
theorem F_X0_hidden_c (x : Int32) {q : Int32 ⊕ Nat} (k0 : K 1000 = some (0, 0)) (k2 : K 1902 = some (67, 1)) (hq : q1 q) (e : F_X1_hidden K F 1000 x I = some (qC q, J)) : F_X0_hidden 1000 x 1902 (n, K, F, I, L) = some (qcc q, (qE q, (n, K, F, J, qL L q))) := by
  cases q with
  | inl r =>
    simp only [F_X0_hidden, hK, jF, hI, hN, hL, zsFI, zsL, zsI, zsF, ↓zka_eq k0, ↓zka_eq k2, zb2_e, zc1_e, zn2, zlet_e, zsum, zg_true, zin_0, d1902, zpay_1, zpay_e, (zxc_l _).1, (zxc_l _).2, zxc_1, zxs_1, qC, qC', qE, qL, qcc, ↓reduceIte, decide_true, zx_t, zx_f, e]
  | inr c =>
    obtain rfl := hq c rfl
    simp only [F_X0_hidden, hK, jF, hI, hN, hL, zsFI, zsL, zsI, zsF, ↓zka_eq k0, ↓zka_eq k2, zb2_e, zc1_e, zn2, zlet_e, zsum, zg_true, zin_0, d1902, zpay_1, zpay_e, (zxc_l _).1, (zxc_l _).2, zxc_1, zxs_1, qC, qC', qE, qL, qcc, ↓reduceIte, decide_true, zx_t, zx_f, e]
    rfl
theorem F_X0_look_c (x : Int32) {q : Int32 ⊕ Nat} (k0 : K 1000 = some (0, 0)) (k2 : K 1902 = some (67, 1)) (hq : q1 q) (e : F_X1_look K F 1000 x I = some (qC q, J)) : F_X0_look 1000 x 1902 (n, K, F, I, L) = some (qcc q, (qE q, (n, K, F, J, qL L q))) := by
  cases q with
  | inl r =>
    simp only [F_X0_look, hK, jF, hI, hN, hL, zsFI, zsL, zsI, zsF, ↓zka_eq k0, ↓zka_eq k2, zb2_e, zc1_e, zn2, zlet_e, zsum, zg_true, zin_0, d1902, zpay_1, zpay_e, (zxc_l _).1, (zxc_l _).2, zxc_1, zxs_1, qC, qC', qE, qL, qcc, ↓reduceIte, decide_true, zx_t, zx_f, e]
  | inr c =>
    obtain rfl := hq c rfl
    simp only [F_X0_look, hK, jF, hI, hN, hL, zsFI, zsL, zsI, zsF, ↓zka_eq k0, ↓zka_eq k2, zb2_e, zc1_e, zn2, zlet_e, zsum, zg_true, zin_0, d1902, zpay_1, zpay_e, (zxc_l _).1, (zxc_l _).2, zxc_1, zxs_1, qC, qC', qE, qL, qcc, ↓reduceIte, decide_true, zx_t, zx_f, e]
    rfl
theorem F_X0_game_c (x y w u v : Int32) {q : Int32 ⊕ Nat} (k0 : K 1000 = some (0, 0)) (k2 : K 1902 = some (67, 1)) (hq : q12 q) (e : F_X1_game K F 1000 x y w u v I = some (qC q, J)) : F_X0_game 1000 x y w u v 1902 (n, K, F, I, L) = some (qcc q, (qE q, (n, K, F, J, qL L q))) := by
  cases q with
  | inl r =>
    simp only [F_X0_game, hK, jF, hI, hN, hL, zsFI, zsL, zsI, zsF, ↓zka_eq k0, ↓zka_eq k2, zb2_e, zc1_e, zn2, zlet_e, zsum, zg_true, zin_0, d1902, zpay_1, zpay_e, (zxc_l _).1, (zxc_l _).2, zxc_1, zxs_1, qC, qC', qE, qL, qcc, ↓reduceIte, decide_true, zx_t, zx_f, e]
  | inr c =>
    rcases hq c rfl with rfl | rfl
    · simp only [F_X0_game, hK, jF, hI, hN, hL, zsFI, zsL, zsI, zsF, ↓zka_eq k0, ↓zka_eq k2, zb2_e, zc1_e, zn2, zlet_e, zsum, zg_true, zin_0, d1902, zpay_1, zpay_e, (zxc_l _).1, (zxc_l _).2, zxc_1, zxs_1, qC, qC', qE, qL, qcc, ↓reduceIte, decide_true, zx_t, zx_f, e]
      rfl
    · simp only [F_X0_game, hK, jF, hI, hN, hL, zsFI, zsL, zsI, zsF, ↓zka_eq k0, ↓zka_eq k2, zb2_e, zc1_e, zn2, zlet_e, zsum, zg_true, zin_0, d1902, zpay_1, zpay_e, (zxc_l _).1, (zxc_l _).2, zxc_1, zxs_1, qC, qC', qE, qL, qcc, ↓reduceIte, decide_true, zx_t, zx_f, e, show ¬ 2 = 1 by decide, dNI]
      rfl
theorem F_X0_winter_c (x y w : Int32) {q : Int32 ⊕ Nat} (k0 : K 1000 = some (0, 0)) (k2 : K 1902 = some (67, 1)) (hq : q12 q) (e : F_X1_winter K F 1000 x y w I = some (qC q, J)) : F_X0_winter 1000 x y w 1902 (n, K, F, I, L) = some (qcc q, (qE q, (n, K, F, J, qL L q))) := by
  cases q with
  | inl r =>
    simp only [F_X0_winter, hK, jF, hI, hN, hL, zsFI, zsL, zsI, zsF, ↓zka_eq k0, ↓zka_eq k2, zb2_e, zc1_e, zn2, zlet_e, zsum, zg_true, zin_0, d1902, zpay_1, zpay_e, (zxc_l _).1, (zxc_l _).2, zxc_1, zxs_1, qC, qC', qE, qL, qcc, ↓reduceIte, decide_true, zx_t, zx_f, e]
  | inr c =>
    rcases hq c rfl with rfl | rfl
    · simp only [F_X0_winter, hK, jF, hI, hN, hL, zsFI, zsL, zsI, zsF, ↓zka_eq k0, ↓zka_eq k2, zb2_e, zc1_e, zn2, zlet_e, zsum, zg_true, zin_0, d1902, zpay_1, zpay_e, (zxc_l _).1, (zxc_l _).2, zxc_1, zxs_1, qC, qC', qE, qL, qcc, ↓reduceIte, decide_true, zx_t, zx_f, e]
      rfl
    · simp only [F_X0_winter, hK, jF, hI, hN, hL, zsFI, zsL, zsI, zsF, ↓zka_eq k0, ↓zka_eq k2, zb2_e, zc1_e, zn2, zlet_e, zsum, zg_true, zin_0, d1902, zpay_1, zpay_e, (zxc_l _).1, (zxc_l _).2, zxc_1, zxs_1, qC, qC', qE, qL, qcc, ↓reduceIte, decide_true, zx_t, zx_f, e, show ¬ 2 = 1 by decide, dNI]
      rfl
theorem F_X0_forest_c (x y : Int32) {q : Int32 ⊕ Nat} (k0 : K 1000 = some (0, 0)) (k2 : K 1902 = some (67, 1)) (hq : q1 q) (e : F_X1_forest K F 1000 x y I = some (qC q, J)) : F_X0_forest 1000 x y 1902 (n, K, F, I, L) = some (qcc q, (qE q, (n, K, F, J, qL L q))) := by
  cases q with
  | inl r =>
    simp only [F_X0_forest, hK, jF, hI, hN, hL, zsFI, zsL, zsI, zsF, ↓zka_eq k0, ↓zka_eq k2, zb2_e, zc1_e, zn2, zlet_e, zsum, zg_true, zin_0, d1902, zpay_1, zpay_e, (zxc_l _).1, (zxc_l _).2, zxc_1, zxs_1, qC, qC', qE, qL, qcc, ↓reduceIte, decide_true, zx_t, zx_f, e]
  | inr c =>
    obtain rfl := hq c rfl
    simp only [F_X0_forest, hK, jF, hI, hN, hL, zsFI, zsL, zsI, zsF, ↓zka_eq k0, ↓zka_eq k2, zb2_e, zc1_e, zn2, zlet_e, zsum, zg_true, zin_0, d1902, zpay_1, zpay_e, (zxc_l _).1, (zxc_l _).2, zxc_1, zxs_1, qC, qC', qE, qL, qcc, ↓reduceIte, decide_true, zx_t, zx_f, e]
    rfl
theorem F_X0_band_c (x y : Int32) {q : Int32 ⊕ Nat} (k0 : K 1000 = some (0, 0)) (k2 : K 1902 = some (67, 1)) (hq : q1 q) (e : F_X1_band K F 1000 x y I = some (qC q, J)) : F_X0_band 1000 x y 1902 (n, K, F, I, L) = some (qcc q, (qE q, (n, K, F, J, qL L q))) := by
  cases q with
  | inl r =>
    simp only [F_X0_band, hK, jF, hI, hN, hL, zsFI, zsL, zsI, zsF, ↓zka_eq k0, ↓zka_eq k2, zb2_e, zc1_e, zn2, zlet_e, zsum, zg_true, zin_0, d1902, zpay_1, zpay_e, (zxc_l _).1, (zxc_l _).2, zxc_1, zxs_1, qC, qC', qE, qL, qcc, ↓reduceIte, decide_true, zx_t, zx_f, e]
  | inr c =>
    obtain rfl := hq c rfl
    simp only [F_X0_band, hK, jF, hI, hN, hL, zsFI, zsL, zsI, zsF, ↓zka_eq k0, ↓zka_eq k2, zb2_e, zc1_e, zn2, zlet_e, zsum, zg_true, zin_0, d1902, zpay_1, zpay_e, (zxc_l _).1, (zxc_l _).2, zxc_1, zxs_1, qC, qC', qE, qL, qcc, ↓reduceIte, decide_true, zx_t, zx_f, e]
    rfl
theorem F_X0_count_c (x : Int32) {q : Int32 ⊕ Nat} (k0 : K 1000 = some (0, 0)) (k2 : K 1902 = some (67, 1)) (hq : q1 q) (e : F_X1_count K F 1000 x I = some (qC q, J)) : F_X0_count 1000 x 1902 (n, K, F, I, L) = some (qcc q, (qE q, (n, K, F, J, qL L q))) := by
  cases q with
  | inl r =>
    simp only [F_X0_count, hK, jF, hI, hN, hL, zsFI, zsL, zsI, zsF, ↓zka_eq k0, ↓zka_eq k2, zb2_e, zc1_e, zn2, zlet_e, zsum, zg_true, zin_0, d1902, zpay_1, zpay_e, (zxc_l _).1, (zxc_l _).2, zxc_1, zxs_1, qC, qC', qE, qL, qcc, ↓reduceIte, decide_true, zx_t, zx_f, e]
  | inr c =>
    obtain rfl := hq c rfl
    simp only [F_X0_count, hK, jF, hI, hN, hL, zsFI, zsL, zsI, zsF, ↓zka_eq k0, ↓zka_eq k2, zb2_e, zc1_e, zn2, zlet_e, zsum, zg_true, zin_0, d1902, zpay_1, zpay_e, (zxc_l _).1, (zxc_l _).2, zxc_1, zxs_1, qC, qC', qE, qL, qcc, ↓reduceIte, decide_true, zx_t, zx_f, e]
    rfl
theorem F_X0_move_c (x y : Int32) {q : Int32 ⊕ Nat} (k0 : K 1000 = some (0, 0)) (k2 : K 1902 = some (67, 1)) (hq : q1 q) (e : F_X1_move 1000 x y (n, K, F, I, L) = some (qcc q, (qC q, (n, K, F', J, L)))) : F_X0_move 1000 x y 1902 (n, K, F, I, L) = some (qcc q, (qE q, (n, K, F', J, qL L q))) := by
  cases q with
  | inl r =>
    simp only [F_X0_move, hK, jF, hI, hN, hL, zsFI, zsL, zsI, zsF, ↓zka_eq k0, ↓zka_eq k2, zb2_e, zc1_e, zn2, zlet_e, zsum, zg_true, zin_0, d1902, zpay_1, zpay_e, (zxc_l _).1, (zxc_l _).2, zxc_1, zxs_1, qC, qC', qE, qL, qcc, ↓reduceIte, decide_true, zx_t, zx_f, e]
  | inr c =>
    obtain rfl := hq c rfl
    simp only [F_X0_move, hK, jF, hI, hN, hL, zsFI, zsL, zsI, zsF, ↓zka_eq k0, ↓zka_eq k2, zb2_e, zc1_e, zn2, zlet_e, zsum, zg_true, zin_0, d1902, zpay_1, zpay_e, (zxc_l _).1, (zxc_l _).2, zxc_1, zxs_1, qC, qC', qE, qL, qcc, ↓reduceIte, decide_true, zx_t, zx_f, e]
    rfl
theorem F_X0_bows_c (x y : Int32) {q : Int32 ⊕ Nat} (k0 : K 1000 = some (0, 0)) (k2 : K 1902 = some (67, 1)) (hq : q1 q) (e : F_X1_bows 1000 x y (n, K, F, I, L) = some (qcc q, (qC q, (n, K, F', J, L)))) : F_X0_bows 1000 x y 1902 (n, K, F, I, L) = some (qcc q, (qE q, (n, K, F', J, qL L q))) := by
  cases q with
  | inl r =>
    simp only [F_X0_bows, hK, jF, hI, hN, hL, zsFI, zsL, zsI, zsF, ↓zka_eq k0, ↓zka_eq k2, zb2_e, zc1_e, zn2, zlet_e, zsum, zg_true, zin_0, d1902, zpay_1, zpay_e, (zxc_l _).1, (zxc_l _).2, zxc_1, zxs_1, qC, qC', qE, qL, qcc, ↓reduceIte, decide_true, zx_t, zx_f, e]
  | inr c =>
    obtain rfl := hq c rfl
    simp only [F_X0_bows, hK, jF, hI, hN, hL, zsFI, zsL, zsI, zsF, ↓zka_eq k0, ↓zka_eq k2, zb2_e, zc1_e, zn2, zlet_e, zsum, zg_true, zin_0, d1902, zpay_1, zpay_e, (zxc_l _).1, (zxc_l _).2, zxc_1, zxs_1, qC, qC', qE, qL, qcc, ↓reduceIte, decide_true, zx_t, zx_f, e]
    rfl
theorem F_X0_rest_c (x y : Int32) {q : Int32 ⊕ Nat} (k0 : K 1000 = some (0, 0)) (k2 : K 1902 = some (67, 1)) (hq : q1 q) (e : F_X1_rest 1000 x y (n, K, F, I, L) = some (qcc q, (qC q, (n, K, F', J, L)))) : F_X0_rest 1000 x y 1902 (n, K, F, I, L) = some (qcc q, (qE q, (n, K, F', J, qL L q))) := by
  cases q with
  | inl r =>
    simp only [F_X0_rest, hK, jF, hI, hN, hL, zsFI, zsL, zsI, zsF, ↓zka_eq k0, ↓zka_eq k2, zb2_e, zc1_e, zn2, zlet_e, zsum, zg_true, zin_0, d1902, zpay_1, zpay_e, (zxc_l _).1, (zxc_l _).2, zxc_1, zxs_1, qC, qC', qE, qL, qcc, ↓reduceIte, decide_true, zx_t, zx_f, e]
  | inr c =>
    obtain rfl := hq c rfl
    simp only [F_X0_rest, hK, jF, hI, hN, hL, zsFI, zsL, zsI, zsF, ↓zka_eq k0, ↓zka_eq k2, zb2_e, zc1_e, zn2, zlet_e, zsum, zg_true, zin_0, d1902, zpay_1, zpay_e, (zxc_l _).1, (zxc_l _).2, zxc_1, zxs_1, qC, qC', qE, qL, qcc, ↓reduceIte, decide_true, zx_t, zx_f, e]
    rfl
theorem F_X0_dye_c (x y : Int32) {q : Int32 ⊕ Nat} (k0 : K 1000 = some (0, 0)) (k2 : K 1902 = some (67, 1)) (hq : q1 q) (e : F_X1_dye 1000 x y (n, K, F, I, L) = some (qcc q, (qC q, (n, K, F', J, L)))) : F_X0_dye 1000 x y 1902 (n, K, F, I, L) = some (qcc q, (qE q, (n, K, F', J, qL L q))) := by
  cases q with
  | inl r =>
    simp only [F_X0_dye, hK, jF, hI, hN, hL, zsFI, zsL, zsI, zsF, ↓zka_eq k0, ↓zka_eq k2, zb2_e, zc1_e, zn2, zlet_e, zsum, zg_true, zin_0, d1902, zpay_1, zpay_e, (zxc_l _).1, (zxc_l _).2, zxc_1, zxs_1, qC, qC', qE, qL, qcc, ↓reduceIte, decide_true, zx_t, zx_f, e]
  | inr c =>
    obtain rfl := hq c rfl
    simp only [F_X0_dye, hK, jF, hI, hN, hL, zsFI, zsL, zsI, zsF, ↓zka_eq k0, ↓zka_eq k2, zb2_e, zc1_e, zn2, zlet_e, zsum, zg_true, zin_0, d1902, zpay_1, zpay_e, (zxc_l _).1, (zxc_l _).2, zxc_1, zxs_1, qC, qC', qE, qL, qcc, ↓reduceIte, decide_true, zx_t, zx_f, e]
    rfl
theorem F_X0_forgive_c (x : Int32) {q : Int32 ⊕ Nat} (k0 : K 1000 = some (0, 0)) (k2 : K 1902 = some (67, 1)) (hq : q1 q) (e : F_X1_forgive 1000 x (n, K, F, I, L) = some (qcc q, (qC q, (n, K, F', J, L)))) : F_X0_forgive 1000 x 1902 (n, K, F, I, L) = some (qcc q, (qE q, (n, K, F', J, qL L q))) := by
  cases q with
  | inl r =>
    simp only [F_X0_forgive, hK, jF, hI, hN, hL, zsFI, zsL, zsI, zsF, ↓zka_eq k0, ↓zka_eq k2, zb2_e, zc1_e, zn2, zlet_e, zsum, zg_true, zin_0, d1902, zpay_1, zpay_e, (zxc_l _).1, (zxc_l _).2, zxc_1, zxs_1, qC, qC', qE, qL, qcc, ↓reduceIte, decide_true, zx_t, zx_f, e]
  | inr c =>
    obtain rfl := hq c rfl
    simp only [F_X0_forgive, hK, jF, hI, hN, hL, zsFI, zsL, zsI, zsF, ↓zka_eq k0, ↓zka_eq k2, zb2_e, zc1_e, zn2, zlet_e, zsum, zg_true, zin_0, d1902, zpay_1, zpay_e, (zxc_l _).1, (zxc_l _).2, zxc_1, zxs_1, qC, qC', qE, qL, qcc, ↓reduceIte, decide_true, zx_t, zx_f, e]
    rfl
theorem F_X0_spy_c (x y w : Int32) {q : Int32 ⊕ Nat} (k0 : K 1000 = some (0, 0)) (k2 : K 1902 = some (67, 1)) (hq : q1 q) (e : F_X1_spy K F 1000 x y w I = some (qC q, J)) : F_X0_spy 1000 x y w 1902 (n, K, F, I, L) = some (qcc q, (qE q, (n, K, F, J, qL L q))) := by
  cases q with
  | inl r =>
    simp only [F_X0_spy, hK, jF, hI, hN, hL, zsFI, zsL, zsI, zsF, ↓zka_eq k0, ↓zka_eq k2, zb2_e, zc1_e, zn2, zlet_e, zsum, zg_true, zin_0, d1902, zpay_1, zpay_e, (zxc_l _).1, (zxc_l _).2, zxc_1, zxs_1, qC, qC', qE, qL, qcc, ↓reduceIte, decide_true, zx_t, zx_f, e]
  | inr c =>
    obtain rfl := hq c rfl
    simp only [F_X0_spy, hK, jF, hI, hN, hL, zsFI, zsL, zsI, zsF, ↓zka_eq k0, ↓zka_eq k2, zb2_e, zc1_e, zn2, zlet_e, zsum, zg_true, zin_0, d1902, zpay_1, zpay_e, (zxc_l _).1, (zxc_l _).2, zxc_1, zxs_1, qC, qC', qE, qL, qcc, ↓reduceIte, decide_true, zx_t, zx_f, e]
    rfl
end L52
