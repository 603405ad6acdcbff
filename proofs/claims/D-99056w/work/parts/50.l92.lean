/-! L92: the first world: a Book -/
section L92
variable {h : zSt} {B : Nat}
def lX5 : List (Nat × Nat × Nat) := [(2, 64, 8), (3, 64, 8), (4, 64, 8), (5, 64, 3)]
theorem F_X5_init_ok (kB : hK h B = some (4, 0)) (hB : 600 ≤ B) (hn : hN h = B + 1) (hf : ∀ y, B + 1 ≤ y → hK h y = none) : ∃ h', F_X5_init B h = some ((416, 3063), h') ∧ hN h' = B + 417 ∧ (∀ y, B + 417 ≤ y → hK h' y = none) ∧ zBL (hK h') (jF h') B ∧ zBO (jF h') B (fun k => k) ∧ (∀ y, y < B → hK h' y = hK h y ∧ jF h' y = jF h y ∧ hI h' y = hI h y) ∧ hI h' B = hI h B ∧ hI h' (B + 11) 2 = nI 40 ∧ ∀ y, B < y → y < B + 417 → y ≠ B + 11 → hI h' y = fun _ => 0 := by
  -- the State
  obtain ⟨a, a1, a2, a3, a4, a5, a6⟩ := zX6_new (h := h) (fun y hy => hf y (by omega)) (by omega)
  rw [hn] at a2 a3 a4 a5 a6
  let b : zSt := zsF a (zu (jF a) B 0 (some (B + 1)))
  have bn : hN b = B + 11 := a2
  -- the list
  let c := znA b 2 0
  have cn : hN c = B + 12 := by show hN b + 1 = _; rw [bn]
  have ck : ∀ y, hK c y = if y = B + 11 then some (2, 0) else hK a y := fun y => by
    show zu1 (hK b) (hN b) _ y = _
    rw [bn]
    rfl
  have cfree : hK c (hN c) = none := by rw [cn, ck, if_neg (by omega)]; exact a3 _ (by omega)
  have e2 := F_J2_init_ok (lst := B + 11) (cap := 40) (s := c) (by decide) (by decide) (by rw [ck, if_pos rfl]) (by omega) (by omega) cfree
  rw [cn] at e2
  let d := zsF (znA (zsI c (zu (hI c) (B + 11) 0 0)) 68 40) (zu (jF (znA (zsI c (zu (hI c) (B + 11) 0 0)) 68 40)) (B + 11) 1 (some (B + 12)))
  have e2' : F_J2_init (B + 11) 40 c = some ((1, 40), d) := e2
  have dn : hN d = B + 13 := by show hN c + 1 = _; rw [cn]
  have dk : ∀ y, hK d y = if y = B + 12 then some (68, 40) else hK c y := fun y => by
    show zu1 (hK c) (hN c) _ y = _
    rw [cn]
    rfl
  let f : zSt := zsF d (zu (jF d) B 1 (some (B + 11)))
  have fn : hN f = B + 13 := dn
  have fk : ∀ y, hK f y = if y = B + 12 then some (68, 40) else if y = B + 11 then some (2, 0) else hK a y := fun y => by
    show hK d y = _
    rw [dk, ck]
  have z : zNew f B 4 := by
    refine ⟨?_, by omega, hB, fun y hy => ?_⟩
    · rw [fk, if_neg (by omega), if_neg (by omega), (a5 B (by omega)).1]
      exact kB
    · rw [fn] at hy
      rw [fk, if_neg (by omega), if_neg (by omega)]
      exact a3 y (by omega)
  let g := zAls f B lX5
  have hl : lX5.length = 4 := rfl
  obtain ⟨k1, k2⟩ := zAls_k (x := B) lX5 f (by omega)
  obtain ⟨i1, i2⟩ := zAls_i (x := B) lX5 f
  obtain ⟨f1, f2, f3⟩ := zAls_f (x := B) lX5 f (by omega)
  rw [hl, fn] at k1 i1 i2 f1
  rw [fn] at k2 f3
  have f4 := f3 (by decide)
  have gn : hN g = B + 17 := by show hN (zAls f B lX5) = _; rw [zAls_n, fn, hl]
  -- rows
  have ff : ∀ y, y ≠ B → y ≠ B + 11 → y < B + 11 → jF f y = jF a y := fun y p q r => by
    show zu (zu (zu1 (zu1 (zu (jF a) B 0 (some (B + 1))) (hN b) (fun _ => none)) (hN c) (fun _ => none)) (B + 11) 1 (some (B + 12))) B 1 (some (B + 11)) y = _
    rw [zu_row p, zu_row q, bn, cn, zu1_off (by omega), zu1_off (by omega), zu_row p]
  have fi : ∀ y, y < B + 11 → hI f y = hI a y := fun y r => by
    show zu1 (zu (zu1 (hI a) (hN b) (fun _ => 0)) (B + 11) 0 0) (hN c) (fun _ => 0) y = _
    rw [cn, bn, zu1_off (by omega), zu_row (by omega), zu1_off (by omega)]
  have fi11 : hI f (B + 11) 2 = 0 := by
    show zu1 (zu (zu1 (hI a) (hN b) (fun _ => 0)) (B + 11) 0 0) (hN c) (fun _ => 0) (B + 11) 2 = _
    rw [cn, bn, zu1_off (by omega), zu_off (by omega), zu1_same]
  have fi12 : hI f (B + 12) = fun _ => 0 := by
    show zu1 (zu (zu1 (hI a) (hN b) (fun _ => 0)) (B + 11) 0 0) (hN c) (fun _ => 0) (B + 12) = _
    rw [cn, zu1_same]
  have gB0 : jF g B 0 = some (B + 1) := by
    show jF (zAls f B lX5) B 0 = _
    rw [f2 0 (by decide)]
    show zu (zu (zu1 (zu1 (zu (jF a) B 0 (some (B + 1))) (hN b) (fun _ => none)) (hN c) (fun _ => none)) (B + 11) 1 (some (B + 12))) B 1 (some (B + 11)) B 0 = _
    rw [zu_off (by omega), zu_row (by omega), bn, cn, zu1_off (by omega), zu1_off (by omega), zu_same]
  have gB1 : jF g B 1 = some (B + 11) := by
    show jF (zAls f B lX5) B 1 = _
    rw [f2 1 (by decide)]
    exact zu_same
  have gf : ∀ y, y ≠ B → y < B + 13 → jF g y = jF f y := fun y p q => f1 y p (by omega)
  have g11 : jF g (B + 11) 1 = some (B + 12) := by
    rw [gf _ (by omega) (by omega)]
    show zu (zu (zu1 (zu1 (zu (jF a) B 0 (some (B + 1))) (hN b) (fun _ => none)) (hN c) (fun _ => none)) (B + 11) 1 (some (B + 12))) B 1 (some (B + 11)) (B + 11) 1 = _
    rw [zu_row (by omega), zu_same]
  have gk : ∀ y, y < B + 13 → hK g y = hK f y := fun y q => k1 y (by omega)
  have kB' : hK g B = some (4, 0) := by rw [gk _ (by omega)]; exact z.1
  have k11 : hK g (B + 11) = some (2, 0) := by rw [gk _ (by omega), fk, if_neg (by omega), if_pos rfl]
  have k12 : hK g (B + 12) = some (68, 40) := by rw [gk _ (by omega), fk, if_pos rfl]
  have gfree : ∀ y, B + 17 ≤ y → hK g y = none := fun y hy => by
    show hK (zAls f B lX5) y = _
    rw [k1 y (by omega)]
    exact z.2.2.2 y (by omega)
  have w0 : bkI B g 0 g := ⟨by rw [gn], fun y hy => gfree y (by omega), fun _ _ => rfl, fun _ _ _ _ => ⟨rfl, rfl⟩, rfl, by
    show hI (zAls f B lX5) (B + 11) 2 = _
    rw [i1 _ (by omega), fi11]
    rfl, rfl, fun j hj => absurd hj (Nat.not_lt_zero j), fun j hj => absurd hj (Nat.not_lt_zero j), fun y p q => by omega⟩
  have s := zloopC_upk (body := fun s : Int32 × zSt => F_X5_init_L61 B s.1 s.2) (fun i s => s.1 = nI i ∧ bkI B g i s.2) (fun t => bkI B g 40 t) 10 73 40 ?_ ?_ 40 0 (0, g) (by decide) ⟨rfl, w0⟩
  · obtain ⟨h', s1, i1', i2', i3', i4', i5', i6', i6b', i7', i8', i9'⟩ := s
    have gi : ∀ y, y ≠ B + 11 → B < y → y < B + 17 → hI g y = fun _ => 0 := fun y p q r => by
      show hI (zAls f B lX5) y = _
      by_cases c1 : y < B + 13
      · rw [i1 y (by omega)]
        by_cases c2 : y < B + 11
        · rw [fi y c2]
          exact a6 y (by omega) (by omega)
        · rw [show y = B + 12 by omega]
          exact fi12
      · exact i2 y (by omega) (by omega)
    refine ⟨h', ?_, i1', i2', ⟨hB, by rw [i3' _ (by omega)]; exact kB', ?_, ?_, ⟨by rw [i3' _ (by omega)]; exact k11, by rw [i5']; exact g11, by rw [i3' _ (by omega)]; exact k12⟩, ⟨?_, ?_, ?_, ?_⟩, i8'⟩, ⟨fun k hk => ⟨hk, i7' k hk⟩, fun i j _ _ e => e⟩, fun y hy => ⟨?_, ?_, ?_⟩, ?_, i6', fun y p q r => ?_⟩
    · have z6 := zNew_6 z
      have z1 := zNew_al (f := 2) (c := 64) (len := 8) z
      have z2 := zNew_al (f := 3) (c := 64) (len := 8) z1
      have z3 := zNew_al (f := 4) (c := 64) (len := 8) z2
      have fr0 : zfree h = true := fr_of (hf _ (by omega)) (by omega)
      have fr1 : zfree b = true := fr_of (by rw [bn]; exact a3 _ (by omega)) (by omega)
      have ka : hK a B = some (4, 0) := by rw [(a5 B (by omega)).1]; exact kB
      have kd : hK d B = some (4, 0) := z.1
      have j1 : zsF a (zu (jF a) B 0 (some (B + 1))) = b := rfl
      have j2 : znA b 2 0 = c := rfl
      have j3 : zsF d (zu (jF d) B 1 (some (B + 11))) = f := rfl
      have j4 : zAl (zAl (zAl (zAl f B 2 64 8) B 3 64 8) B 4 64 8) B 5 64 3 = g := rfl
      unfold F_X5_init
      rw [fr0, zg_true, zlet_e, zlet_e, a1, zc1_e, zka_eq ka, zNew_6 z, zg_true, hn, zlet_e, j1, fr1, zg_true, zlet_e, zlet_e, j2, bn, e2', zc1_e, zka_eq kd, zlet_e, j3]
      simp only [zlet_e, zg_true, zAl_fold, zNew_free z, zNew_kn z, zNew_free z1, zNew_kn z1, zNew_free z2, zNew_kn z2, zNew_free z3, zNew_kn z3, j4, s1, zc1_e, zpay_e]
    · have hr := i4' B (by omega) (by omega) (by omega)
      rw [hr.1]
      exact ⟨gB0, gB1, f4 0 (by decide), f4 1 (by decide), f4 2 (by decide), f4 3 (by decide)⟩
    · refine a4.kf (fun y p q => ?_) ?_
      · rw [i3' y (by omega), gk y (by omega), fk, if_neg (by omega), if_neg (by omega)]
      · rw [(i4' _ (by omega) (by omega) (by omega)).1, gf _ (by omega) (by omega)]
        exact ff _ (by omega) (by omega) (by omega)
    · rw [i3' _ (by omega)]; exact k2 0 (by decide)
    · rw [i3' _ (by omega)]; exact k2 1 (by decide)
    · rw [i3' _ (by omega)]; exact k2 2 (by decide)
    · rw [i3' _ (by omega)]; exact k2 3 (by decide)
    · rw [i3' y (by omega), gk y (by omega), fk, if_neg (by omega), if_neg (by omega)]
      exact (a5 y (by omega)).1
    · rw [(i4' y (by omega) (by omega) (by omega)).1, gf y (by omega) (by omega), ff y (by omega) (by omega) (by omega)]
      exact (a5 y (by omega)).2.1
    · rw [(i4' y (by omega) (by omega) (by omega)).2]
      show hI (zAls f B lX5) y = _
      rw [i1 y (by omega), fi y (by omega)]
      exact (a5 y (by omega)).2.2
    · rw [(i4' B (by omega) (by omega) (by omega)).2]
      show hI (zAls f B lX5) B = _
      rw [i1 B (by omega), fi B (by omega)]
      exact (a5 B (by omega)).2.2
    · by_cases c1 : y < B + 17
      · by_cases c2 : y = B + 12
        · rw [c2, i6b']
          exact gi _ (by omega) (by omega) (by omega)
        · rw [(i4' y c1 r c2).2]
          exact gi y r p c1
      · exact i9' y (by omega) (by omega)
  · rintro i ⟨_, s⟩ hi ⟨rfl, w⟩
    obtain ⟨s', q1, q2⟩ := bk_step hB hi kB' gB1 k11 g11 k12 w
    exact ⟨(nI (i + 1), s'), q1, rfl, q2⟩
  · rintro ⟨_, s⟩ ⟨rfl, w⟩
    refine ⟨s, ?_, w⟩
    dsimp only
    unfold F_X5_init_L61
    exact if_pos (by decide)
end L92
