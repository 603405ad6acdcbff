/-! L91: the first world: States -/
section L91
variable {h : zSt} {x kx f c len : Nat}
def lX6 : List (Nat × Nat × Nat) := [(0, 64, 8), (1, 64, 8), (2, 64, 8), (3, 64, 6), (4, 64, 6), (5, 64, 6), (6, 64, 6), (7, 64, 6), (8, 64, 6)]
theorem F_X6_init_ok (z : zNew h x 5) : F_X6_init x h = some ((9, 60), zAls h x lX6) := by
  have z1 := zNew_al (f := 0) (c := 64) (len := 8) z
  have z2 := zNew_al (f := 1) (c := 64) (len := 8) z1
  have z3 := zNew_al (f := 2) (c := 64) (len := 8) z2
  have z4 := zNew_al (f := 3) (c := 64) (len := 6) z3
  have z5 := zNew_al (f := 4) (c := 64) (len := 6) z4
  have z6 := zNew_al (f := 5) (c := 64) (len := 6) z5
  have z7 := zNew_al (f := 6) (c := 64) (len := 6) z6
  have z8 := zNew_al (f := 7) (c := 64) (len := 6) z7
  have z6' := zNew_6 z
  simp only [F_X6_init, zlet_e, zg_true, z6', zAl_fold, zNew_free z, zNew_kn z, zNew_free z1, zNew_kn z1, zNew_free z2, zNew_kn z2, zNew_free z3, zNew_kn z3, zNew_free z4, zNew_kn z4, zNew_free z5, zNew_kn z5, zNew_free z6, zNew_kn z6, zNew_free z7, zNew_kn z7, zNew_free z8, zNew_kn z8, zpay_e]
  rfl
theorem zSL.kf {K K' : zKd} {F F' : zFd} {o : Nat} (h : zSL K F o) (eK : ∀ y, o ≤ y → y ≤ o + 9 → K' y = K y) (eF : F' o = F o) : zSL K' F' o := by
  unfold zSL at h ⊢
  rw [eF, eK o (by omega) (by omega), eK (o + 1) (by omega) (by omega), eK (o + 2) (by omega) (by omega), eK (o + 3) (by omega) (by omega), eK (o + 4) (by omega) (by omega), eK (o + 5) (by omega) (by omega), eK (o + 6) (by omega) (by omega), eK (o + 7) (by omega) (by omega), eK (o + 8) (by omega) (by omega), eK (o + 9) (by omega) (by omega)]
  exact h
/-- a State made: number x, its tables next -/
theorem zX6_new (hf : ∀ y, hN h ≤ y → hK h y = none) (h6 : 600 ≤ hN h) : ∃ h', F_X6_init (hN h) (znA h 5 0) = some ((9, 60), h') ∧ hN h' = hN h + 10 ∧ (∀ y, hN h + 10 ≤ y → hK h' y = none) ∧ zSL (hK h') (jF h') (hN h) ∧ (∀ y, y < hN h → hK h' y = hK h y ∧ jF h' y = jF h y ∧ hI h' y = hI h y) ∧ ∀ y, hN h ≤ y → y < hN h + 10 → hI h' y = fun _ => 0 := by
  let g := znA h 5 0
  let x := hN h
  have gn : hN g = x + 1 := rfl
  have gk : ∀ y, y < x → hK g y = hK h y := fun y hy => zu1_off (by omega)
  have gf : ∀ y, y < x → jF g y = jF h y := fun y hy => zu1_off (by omega)
  have gi : ∀ y, y < x → hI g y = hI h y := fun y hy => zu1_off (by omega)
  have z : zNew g x 5 := ⟨zu1_same, by omega, h6, fun y hy => by
    show zu1 (hK h) x _ y = none
    rw [zu1_off (by omega)]
    exact hf y (by omega)⟩
  have e := F_X6_init_ok z
  obtain ⟨k1, k2⟩ := zAls_k (x := x) lX6 g (by omega)
  obtain ⟨i1, i2⟩ := zAls_i (x := x) lX6 g
  obtain ⟨f1, f2, f3⟩ := zAls_f (x := x) lX6 g (by omega)
  have hl : lX6.length = 9 := rfl
  rw [hl, gn] at k1 i1 i2 f1
  rw [gn] at k2 f3
  have f4 := f3 (by decide)
  refine ⟨zAls g x lX6, e, by rw [zAls_n, gn, hl], fun y hy => ?_, ?_, fun y hy => ⟨?_, ?_, ?_⟩, fun y h1 h2 => ?_⟩
  · rw [k1 y (by omega)]
    exact z.2.2.2 y (by omega)
  · refine ⟨h6, ?_, ⟨f4 0 (by decide), f4 1 (by decide), f4 2 (by decide), f4 3 (by decide), f4 4 (by decide), f4 5 (by decide), f4 6 (by decide), f4 7 (by decide), f4 8 (by decide)⟩, k2 0 (by decide), k2 1 (by decide), k2 2 (by decide), k2 3 (by decide), k2 4 (by decide), k2 5 (by decide), k2 6 (by decide), k2 7 (by decide), k2 8 (by decide)⟩
    rw [k1 _ (by omega)]
    exact z.1
  · rw [k1 y (by omega)]; exact gk y (by omega)
  · rw [f1 y (by omega) (by omega)]; exact gf y (by omega)
  · rw [i1 y (by omega)]; exact gi y (by omega)
  · by_cases c : y = x
    · rw [i1 y (by omega)]
      show zu1 (hI h) x _ y = _
      rw [c]
      exact zu1_same
    · exact i2 y (by omega) (by omega)
theorem zloopC_upk {s t : Type} {body : s → Option ((Nat × Nat) × (s ⊕ t))} (Inv : Nat → s → Prop) (Post : t → Prop) (c1 c2 e : Nat) (hs : ∀ i x, i < e → Inv i x → ∃ x', body x = some ((c1, c2), .inl x') ∧ Inv (i + 1) x') (he : ∀ x, Inv e x → ∃ y, body x = some ((0, 0), .inr y) ∧ Post y) : ∀ (k i : Nat) (x : s), i + k = e → Inv i x → ∃ y, zloopC body x = some ((k * c1, k * c2), y) ∧ Post y := by
  intro k
  induction k with
  | zero =>
    intro i x hi h
    obtain ⟨y, h1, h2⟩ := he x (by rw [← hi]; exact h)
    exact ⟨y, by rw [zloopC_end h1]; simp, h2⟩
  | succ k ih =>
    intro i x hi h
    obtain ⟨x', h1, h2⟩ := hs i x (by omega) h
    obtain ⟨y, h3, h4⟩ := ih (i + 1) x' (by omega) h2
    refine ⟨y, ?_, h4⟩
    rw [zloopC_step h1, h3, zpay_e, Nat.succ_mul, Nat.succ_mul]
/-- a Book made -/
def bkI (B : Nat) (g : zSt) (k : Nat) (s : zSt) : Prop := hN s = B + 17 + 10 * k ∧ (∀ y, B + 17 + 10 * k ≤ y → hK s y = none) ∧ (∀ y, y < B + 17 → hK s y = hK g y) ∧ (∀ y, y < B + 17 → y ≠ B + 11 → y ≠ B + 12 → jF s y = jF g y ∧ hI s y = hI g y) ∧ jF s (B + 11) = jF g (B + 11) ∧ hI s (B + 11) 2 = nI k ∧ hI s (B + 12) = hI g (B + 12) ∧ (∀ j, j < k → jF s (B + 12) j = some (B + 17 + 10 * j)) ∧ (∀ j, j < k → zSL (hK s) (jF s) (B + 17 + 10 * j)) ∧ ∀ y, B + 17 ≤ y → y < B + 17 + 10 * k → hI s y = fun _ => 0
theorem bk_step {B : Nat} {g s : zSt} {k : Nat} (hB : 600 ≤ B) (hk : k < 40) (kB : hK g B = some (4, 0)) (fB : jF g B 1 = some (B + 11)) (k11 : hK g (B + 11) = some (2, 0)) (f11 : jF g (B + 11) 1 = some (B + 12)) (k12 : hK g (B + 12) = some (68, 40)) (h : bkI B g k s) : ∃ s', F_X5_init_L61 B (nI k) s = some ((10, 73), .inl (nI (k + 1), s')) ∧ bkI B g (k + 1) s' := by
  obtain ⟨i1, i2, i3, i4, i5, i6, i6b, i7, i8, i9⟩ := h
  obtain ⟨u, e1, e2, e3, e4, e5, e6⟩ := zX6_new (h := s) (fun y hy => i2 y (by omega)) (by omega)
  rw [i1] at e2 e3 e4 e5 e6
  have ku : hK u (B + 17 + 10 * k) = some (5, 0) := e4.2.1
  have k11' : hK u (B + 11) = some (2, 0) := by rw [(e5 _ (by omega)).1, i3 _ (by omega)]; exact k11
  have f11' : jF u (B + 11) 1 = some (B + 12) := by rw [(e5 _ (by omega)).2.1, i5]; exact f11
  have k12' : hK u (B + 12) = some (68, 40) := by rw [(e5 _ (by omega)).1, i3 _ (by omega)]; exact k12
  have c11 : hI u (B + 11) 2 = nI k := by rw [(e5 _ (by omega)).2.2]; exact i6
  have ea := F_add_ok (n := hN u) (K := hK u) (F := jF u) (I := hI u) (L := hL u) (lst := B + 11) (E := B + 12) (s := k) (cap := 40) (x := B + 17 + 10 * k) (m := 5) (by omega) (by omega) k11' f11' k12' c11 hk (by decide) ku (Or.inl rfl)
  let F2 := zu (jF u) (B + 12) k (some (B + 17 + 10 * k))
  let I2 := zu (zu (hI u) (B + 11) 0 (hI u (B + 11) 0 + 1)) (B + 11) 2 (nI (k + 1))
  have F2o : ∀ y, y ≠ B + 12 → F2 y = jF u y := fun y hy => zu_row hy
  have I2o : ∀ y, y ≠ B + 11 → I2 y = hI u y := fun y hy => by
    show zu (zu _ _ _ _) _ _ _ y = _
    rw [zu_row hy, zu_row hy]
  refine ⟨(hN u, hK u, F2, I2, hL u), ?_, by show hN u = _; rw [e2]; omega, fun y hy => e3 y (by omega), fun y hy => ?_, fun y p q r => ⟨?_, ?_⟩, ?_, zu_same, ?_, fun j hj => ?_, fun j hj => ?_, fun y p q => ?_⟩
  · have kBs : hK s B = some (4, 0) := by rw [i3 _ (by omega)]; exact kB
    have fBs : jF s B 1 = some (B + 11) := by rw [(i4 B (by omega) (by omega) (by omega)).1]; exact fB
    have hlt : ¬ (40 : Int32) ≤ nI k := nI_ge (b := 40) hk (by decide)
    have fr : zfree s = true := by
      unfold zfree
      rw [i2 _ (by rw [i1]; omega), i1]
      simp
      omega
    unfold F_X5_init_L61
    rw [if_neg hlt, zka_eq kBs, decide_eq_true hB, zg_true, fBs, zb1_e, fr, zg_true, zlet_e, zlet_e, e1, zc1_e, zka_eq k11', i1]
    have ea' : F_J2_add (B + 11) (B + 17 + 10 * k) u = some ((0, 0), (1, (hN u, hK u, F2, I2, hL u))) := ea
    rw [ea']
    simp only [zc1_e, zn2, zlet_e, nI_1, zpay_e, Nat.zero_add]
  · show hK u y = _
    rw [(e5 y (by omega)).1]
    exact i3 y hy
  · show F2 y = _
    rw [F2o y r, (e5 y (by omega)).2.1]
    exact (i4 y p q r).1
  · show I2 y = _
    rw [I2o y q, (e5 y (by omega)).2.2]
    exact (i4 y p q r).2
  · show F2 (B + 11) = _
    rw [F2o _ (by omega), (e5 _ (by omega)).2.1]
    exact i5
  · show I2 (B + 12) = _
    rw [I2o _ (by omega), (e5 _ (by omega)).2.2]
    exact i6b
  · show zu (jF u) (B + 12) k (some (B + 17 + 10 * k)) (B + 12) j = _
    by_cases c : j = k
    · subst c
      exact zu_same
    · rw [zu_off (by omega), (e5 _ (by omega)).2.1]
      exact i7 j (by omega)
  · show zSL (hK u) F2 _
    by_cases c : j = k
    · subst c
      exact e4.cF (F2o _ (by omega))
    · refine (i8 j (by omega)).kf (fun y p q => (e5 y (by omega)).1) ?_
      rw [F2o _ (by omega)]
      exact (e5 _ (by omega)).2.1
  · show I2 y = _
    rw [I2o y (by omega)]
    by_cases c : y < B + 17 + 10 * k
    · rw [(e5 y (by omega)).2.2]
      exact i9 y p c
    · exact e6 y (by omega) (by omega)
end L91
