/-! L94: the first world: the model -/
def lM1 : List (Nat × Nat × Nat) := [(2, 64, 16), (3, 64, 16), (4, 64, 16), (5, 64, 16), (6, 64, 16), (7, 64, 128), (8, 64, 12), (9, 64, 12), (10, 64, 12), (11, 64, 6), (12, 64, 1400), (13, 64, 3), (14, 64, 700)]
def lM2 : List (Nat × Nat × Nat) := [(25, 64, 8), (26, 64, 8), (27, 64, 8), (28, 64, 6), (29, 64, 6), (30, 64, 6), (31, 64, 6), (32, 64, 6), (33, 64, 2280), (39, 64, 7), (40, 64, 64), (42, 64, 57), (43, 64, 8), (44, 64, 2048), (45, 64, 64), (46, 64, 8), (47, 64, 8), (48, 64, 8), (49, 64, 57), (50, 64, 180), (51, 64, 1080), (57, 64, 57), (58, 64, 2280), (59, 64, 8), (60, 64, 8), (61, 64, 8), (62, 64, 3)]
section L94
variable {h : zSt}
/-- the model made -/
def zM0 (h h' : zSt) : Prop := hN h' = 1902 ∧ (∀ y, 1902 ≤ y → hK h' y = none) ∧ (∀ y, y < 1860 → hK h' y = hK h y ∧ jF h' y = jF h y ∧ hI h' y = hI h y) ∧ zMok (hK h') (jF h') = true ∧ (∀ k, k < 7 → jF h' 1861 k = some (86 + 2 * k)) ∧ (hI h' 1860 24 = -1 ∧ ∀ k, k ≠ 24 → hI h' 1860 k = 0) ∧ (hI h' 1862 4 = 2 ∧ hI h' 1862 5 = 3 ∧ hI h' 1862 6 = 20 ∧ ∀ k, k ≠ 4 → k ≠ 5 → k ≠ 6 → hI h' 1862 k = 0) ∧ ∀ y, 1861 ≤ y → y < 1902 → y ≠ 1862 → hI h' y = fun _ => 0
set_option maxHeartbeats 4000000 in
theorem F_X7_init_ok (hn : hN h = 1861) (k0 : hK h 1860 = some (6, 0)) (hf : ∀ y, 1861 ≤ y → hK h y = none) (ks : ∀ k, k < 7 → hK h (86 + 2 * k) = some (15, 0)) (i0 : hI h 1860 = fun _ => 0) : ∃ h', F_X7_init 1860 h = some ((41, 10647), h') ∧ zM0 h h' := by
  have d60 : decide (600 ≤ 1860) = true := rfl
  have d61 : decide (600 ≤ 1861) = true := rfl
  let g := znA h 69 7
  have gn : hN g = 1862 := by show hN h + 1 = _; rw [hn]
  have gk : ∀ y, hK g y = if y = 1861 then some (69, 7) else hK h y := fun y => by show zu1 (hK h) (hN h) _ y = _; rw [hn]; rfl
  have fr0 : zfree h = true := fr_of (by rw [hn]; exact hf _ (by decide)) (by omega)
  have k61 : hK g 1861 = some (69, 7) := by rw [gk, if_pos rfl]
  have k60 : hK g 1860 = some (6, 0) := by rw [gk, if_neg (by decide)]; exact k0
  have kst : ∀ k, k < 7 → hK g (86 + 2 * k) = some (15, 0) := fun k hk => by rw [gk, if_neg (by omega)]; exact ks k hk
  let Fa : zFd := zu (zu (zu (zu (zu (zu (zu (jF g) 1861 0 (some 86)) 1861 1 (some 88)) 1861 2 (some 90)) 1861 3 (some 92)) 1861 4 (some 94)) 1861 5 (some 96)) 1861 6 (some 98)
  let hA : zSt := zsF g (zu Fa 1860 0 (some 1861))
  have kA : ∀ y, hK hA y = hK g y := fun _ => rfl
  have nA : hN hA = 1862 := gn
  have a0 : zNew hA 1860 6 := ⟨k60, by rw [nA]; decide, by decide, fun y hy => by rw [nA] at hy; rw [kA, gk, if_neg (by omega)]; exact hf y (by omega)⟩
  have a1 := zNew_al (f := 2) (c := 64) (len := 16) a0
  have a2 := zNew_al (f := 3) (c := 64) (len := 16) a1
  have a3 := zNew_al (f := 4) (c := 64) (len := 16) a2
  have a4 := zNew_al (f := 5) (c := 64) (len := 16) a3
  have a5 := zNew_al (f := 6) (c := 64) (len := 16) a4
  have a6 := zNew_al (f := 7) (c := 64) (len := 128) a5
  have a7 := zNew_al (f := 8) (c := 64) (len := 12) a6
  have a8 := zNew_al (f := 9) (c := 64) (len := 12) a7
  have a9 := zNew_al (f := 10) (c := 64) (len := 12) a8
  have a10 := zNew_al (f := 11) (c := 64) (len := 6) a9
  have a11 := zNew_al (f := 12) (c := 64) (len := 1400) a10
  have a12 := zNew_al (f := 13) (c := 64) (len := 3) a11
  have a13 := zNew_al (f := 14) (c := 64) (len := 700) a12
  let hB : zSt := zAls hA 1860 lM1
  have aB : zNew hB 1860 6 := a13
  let hC : zSt := zsI hB (zu (hI hB) 1860 24 (-1))
  have b0 : zNew hC 1860 6 := aB
  have b1 := zNew_al (f := 25) (c := 64) (len := 8) b0
  have b2 := zNew_al (f := 26) (c := 64) (len := 8) b1
  have b3 := zNew_al (f := 27) (c := 64) (len := 8) b2
  have b4 := zNew_al (f := 28) (c := 64) (len := 6) b3
  have b5 := zNew_al (f := 29) (c := 64) (len := 6) b4
  have b6 := zNew_al (f := 30) (c := 64) (len := 6) b5
  have b7 := zNew_al (f := 31) (c := 64) (len := 6) b6
  have b8 := zNew_al (f := 32) (c := 64) (len := 6) b7
  have b9 := zNew_al (f := 33) (c := 64) (len := 2280) b8
  have b10 := zNew_al (f := 39) (c := 64) (len := 7) b9
  have b11 := zNew_al (f := 40) (c := 64) (len := 64) b10
  have b12 := zNew_al (f := 42) (c := 64) (len := 57) b11
  have b13 := zNew_al (f := 43) (c := 64) (len := 8) b12
  have b14 := zNew_al (f := 44) (c := 64) (len := 2048) b13
  have b15 := zNew_al (f := 45) (c := 64) (len := 64) b14
  have b16 := zNew_al (f := 46) (c := 64) (len := 8) b15
  have b17 := zNew_al (f := 47) (c := 64) (len := 8) b16
  have b18 := zNew_al (f := 48) (c := 64) (len := 8) b17
  have b19 := zNew_al (f := 49) (c := 64) (len := 57) b18
  have b20 := zNew_al (f := 50) (c := 64) (len := 180) b19
  have b21 := zNew_al (f := 51) (c := 64) (len := 1080) b20
  have b22 := zNew_al (f := 57) (c := 64) (len := 57) b21
  have b23 := zNew_al (f := 58) (c := 64) (len := 2280) b22
  have b24 := zNew_al (f := 59) (c := 64) (len := 8) b23
  have b25 := zNew_al (f := 60) (c := 64) (len := 8) b24
  have b26 := zNew_al (f := 61) (c := 64) (len := 8) b25
  have b27 := zNew_al (f := 62) (c := 64) (len := 3) b26
  let h' := zAls hC 1860 lM2
  have l1 : lM1.length = 13 := rfl
  have l2 : lM2.length = 27 := rfl
  have nB : hN hB = 1875 := by show hN (zAls hA 1860 lM1) = _; rw [zAls_n, nA]; rfl
  have nC : hN hC = 1875 := nB
  obtain ⟨k1, k2⟩ := zAls_k (x := 1860) lM1 hA (by rw [nA]; decide)
  obtain ⟨i1, i2⟩ := zAls_i (x := 1860) lM1 hA
  obtain ⟨f1, f2, f3⟩ := zAls_f (x := 1860) lM1 hA (by rw [nA]; decide)
  obtain ⟨p1, p2⟩ := zAls_k (x := 1860) lM2 hC (by rw [nC]; decide)
  obtain ⟨j1, j2⟩ := zAls_i (x := 1860) lM2 hC
  obtain ⟨r1, r2, r3⟩ := zAls_f (x := 1860) lM2 hC (by rw [nC]; decide)
  rw [l1, nA] at k1 i1 i2 f1
  rw [nA] at k2 f3
  rw [l2, nC] at p1 j1 j2 r1
  rw [nC] at p2 r3
  have f4 := f3 (by decide)
  have r4 := r3 (by decide)
  have kk : ∀ y, y < 1862 → hK h' y = hK g y := fun y hy => by
    show hK (zAls hC 1860 lM2) y = _
    rw [p1 y (by omega)]
    show hK (zAls hA 1860 lM1) y = _
    rw [k1 y (by omega)]
    rfl
  have kk1 : ∀ i, i < 13 → ∀ q, hK (zAls hA 1860 lM1) (1862 + i) = q → hK h' (1862 + i) = q := fun i hi q hq => by
    show hK (zAls hC 1860 lM2) _ = _
    rw [p1 _ (by omega)]
    exact hq
  have ff : ∀ y, y ≠ 1860 → y < 1862 → jF h' y = Fa y := fun y h0 hy => by
    show jF (zAls hC 1860 lM2) y = _
    rw [r1 y h0 (by omega)]
    show jF (zAls hA 1860 lM1) y = _
    rw [f1 y h0 (by omega)]
    exact zu_row h0
  have w60 : jF hA 1860 0 = some 1861 := by show zu Fa 1860 0 (some 1861) 1860 0 = _; exact zu_same
  have f60a : ∀ k, k ∉ lM2.map (fun q => q.1) → jF h' 1860 k = jF (zAls hA 1860 lM1) 1860 k := fun k hk => r2 k hk
  have iz : ∀ y, 1861 ≤ y → y < 1902 → hI h' y = fun _ => 0 := fun y p q => by
    show hI (zAls hC 1860 lM2) y = _
    by_cases c : y < 1875
    · rw [j1 y (by omega)]
      show zu (hI (zAls hA 1860 lM1)) 1860 24 (-1) y = _
      rw [zu_row (by omega)]
      by_cases c2 : y = 1861
      · rw [i1 y (by omega), c2]
        show zu1 (hI h) (hN h) _ 1861 = _
        rw [hn, zu1_same]
      · exact i2 y (by omega) (by omega)
    · exact j2 y (by omega) (by omega)
  let I2 : zId := zu (zu (zu (hI h') 1862 4 2) 1862 5 3) 1862 6 20
  have I2o : ∀ y, y ≠ 1862 → I2 y = hI h' y := fun y hy => by
    show zu (zu (zu (hI h') _ _ _) _ _ _) _ _ _ y = _
    rw [zu_row hy, zu_row hy, zu_row hy]
  refine ⟨zsI h' I2, ?_, ?_, fun y hy => ?_, fun y hy => ⟨?_, ?_, ?_⟩, ?_, fun k hk => ?_, ⟨?_, fun k hk => ?_⟩, ⟨?_, ?_, ?_, fun k p q r => ?_⟩, fun y p q r => ?_⟩
  · unfold F_X7_init
    rw [fr0, zg_true, zlet_e, zlet_e, hn, show znA h 69 7 = g from rfl]
    rw [zka_eq (kst 0 (by decide)), zka_eq k61, show zin 0 7 = true from by decide, zg_true, d61, zg_true, zlet_e]
    rw [zka_eq (show hK (zsF g (zu (jF g) 1861 0 (some 86))) 88 = some (15, 0) from kst 1 (by decide)), zka_eq (show hK (zsF g (zu (jF g) 1861 0 (some 86))) 1861 = some (69, 7) from k61), show zin 1 7 = true from by decide, zg_true, zlet_e]
    have w1 : zsF (zsF g (zu (jF g) 1861 0 (some 86))) (zu (jF (zsF g (zu (jF g) 1861 0 (some 86)))) 1861 1 (some 88)) = zsF g (zu (zu (jF g) 1861 0 (some 86)) 1861 1 (some 88)) := rfl
    rw [w1, zka_eq (show hK (zsF g (zu (zu (jF g) 1861 0 (some 86)) 1861 1 (some 88))) 90 = some (15, 0) from kst 2 (by decide)), zka_eq (show hK (zsF g (zu (zu (jF g) 1861 0 (some 86)) 1861 1 (some 88))) 1861 = some (69, 7) from k61), show zin 2 7 = true from by decide, zg_true, zlet_e]
    have w2 : zsF (zsF g (zu (zu (jF g) 1861 0 (some 86)) 1861 1 (some 88))) (zu (jF (zsF g (zu (zu (jF g) 1861 0 (some 86)) 1861 1 (some 88)))) 1861 2 (some 90)) = zsF g (zu (zu (zu (jF g) 1861 0 (some 86)) 1861 1 (some 88)) 1861 2 (some 90)) := rfl
    rw [w2, zka_eq (show hK (zsF g (zu (zu (zu (jF g) 1861 0 (some 86)) 1861 1 (some 88)) 1861 2 (some 90))) 92 = some (15, 0) from kst 3 (by decide)), zka_eq (show hK (zsF g (zu (zu (zu (jF g) 1861 0 (some 86)) 1861 1 (some 88)) 1861 2 (some 90))) 1861 = some (69, 7) from k61), show zin 3 7 = true from by decide, zg_true, zlet_e]
    have w3 : zsF (zsF g (zu (zu (zu (jF g) 1861 0 (some 86)) 1861 1 (some 88)) 1861 2 (some 90))) (zu (jF (zsF g (zu (zu (zu (jF g) 1861 0 (some 86)) 1861 1 (some 88)) 1861 2 (some 90)))) 1861 3 (some 92)) = zsF g (zu (zu (zu (zu (jF g) 1861 0 (some 86)) 1861 1 (some 88)) 1861 2 (some 90)) 1861 3 (some 92)) := rfl
    rw [w3, zka_eq (show hK (zsF g (zu (zu (zu (zu (jF g) 1861 0 (some 86)) 1861 1 (some 88)) 1861 2 (some 90)) 1861 3 (some 92))) 94 = some (15, 0) from kst 4 (by decide)), zka_eq (show hK (zsF g (zu (zu (zu (zu (jF g) 1861 0 (some 86)) 1861 1 (some 88)) 1861 2 (some 90)) 1861 3 (some 92))) 1861 = some (69, 7) from k61), show zin 4 7 = true from by decide, zg_true, zlet_e]
    have w4 : zsF (zsF g (zu (zu (zu (zu (jF g) 1861 0 (some 86)) 1861 1 (some 88)) 1861 2 (some 90)) 1861 3 (some 92))) (zu (jF (zsF g (zu (zu (zu (zu (jF g) 1861 0 (some 86)) 1861 1 (some 88)) 1861 2 (some 90)) 1861 3 (some 92)))) 1861 4 (some 94)) = zsF g (zu (zu (zu (zu (zu (jF g) 1861 0 (some 86)) 1861 1 (some 88)) 1861 2 (some 90)) 1861 3 (some 92)) 1861 4 (some 94)) := rfl
    rw [w4, zka_eq (show hK (zsF g (zu (zu (zu (zu (zu (jF g) 1861 0 (some 86)) 1861 1 (some 88)) 1861 2 (some 90)) 1861 3 (some 92)) 1861 4 (some 94))) 96 = some (15, 0) from kst 5 (by decide)), zka_eq (show hK (zsF g (zu (zu (zu (zu (zu (jF g) 1861 0 (some 86)) 1861 1 (some 88)) 1861 2 (some 90)) 1861 3 (some 92)) 1861 4 (some 94))) 1861 = some (69, 7) from k61), show zin 5 7 = true from by decide, zg_true, zlet_e]
    have w5 : zsF (zsF g (zu (zu (zu (zu (zu (jF g) 1861 0 (some 86)) 1861 1 (some 88)) 1861 2 (some 90)) 1861 3 (some 92)) 1861 4 (some 94))) (zu (jF (zsF g (zu (zu (zu (zu (zu (jF g) 1861 0 (some 86)) 1861 1 (some 88)) 1861 2 (some 90)) 1861 3 (some 92)) 1861 4 (some 94)))) 1861 5 (some 96)) = zsF g (zu (zu (zu (zu (zu (zu (jF g) 1861 0 (some 86)) 1861 1 (some 88)) 1861 2 (some 90)) 1861 3 (some 92)) 1861 4 (some 94)) 1861 5 (some 96)) := rfl
    rw [w5, zka_eq (show hK (zsF g (zu (zu (zu (zu (zu (zu (jF g) 1861 0 (some 86)) 1861 1 (some 88)) 1861 2 (some 90)) 1861 3 (some 92)) 1861 4 (some 94)) 1861 5 (some 96))) 98 = some (15, 0) from kst 6 (by decide)), zka_eq (show hK (zsF g (zu (zu (zu (zu (zu (zu (jF g) 1861 0 (some 86)) 1861 1 (some 88)) 1861 2 (some 90)) 1861 3 (some 92)) 1861 4 (some 94)) 1861 5 (some 96))) 1861 = some (69, 7) from k61), show zin 6 7 = true from by decide, zg_true, zlet_e]
    rw [zka_eq (show hK (zsF (zsF g (zu (zu (zu (zu (zu (zu (jF g) 1861 0 (some 86)) 1861 1 (some 88)) 1861 2 (some 90)) 1861 3 (some 92)) 1861 4 (some 94)) 1861 5 (some 96))) (zu (jF (zsF g (zu (zu (zu (zu (zu (zu (jF g) 1861 0 (some 86)) 1861 1 (some 88)) 1861 2 (some 90)) 1861 3 (some 92)) 1861 4 (some 94)) 1861 5 (some 96)))) 1861 6 (some 98))) 1860 = some (6, 0) from k60), d60, zg_true, zlet_e, show zsF (zsF (zsF g (zu (zu (zu (zu (zu (zu (jF g) 1861 0 (some 86)) 1861 1 (some 88)) 1861 2 (some 90)) 1861 3 (some 92)) 1861 4 (some 94)) 1861 5 (some 96))) (zu (jF (zsF g (zu (zu (zu (zu (zu (zu (jF g) 1861 0 (some 86)) 1861 1 (some 88)) 1861 2 (some 90)) 1861 3 (some 92)) 1861 4 (some 94)) 1861 5 (some 96)))) 1861 6 (some 98))) (zu (jF (zsF (zsF g (zu (zu (zu (zu (zu (zu (jF g) 1861 0 (some 86)) 1861 1 (some 88)) 1861 2 (some 90)) 1861 3 (some 92)) 1861 4 (some 94)) 1861 5 (some 96))) (zu (jF (zsF g (zu (zu (zu (zu (zu (zu (jF g) 1861 0 (some 86)) 1861 1 (some 88)) 1861 2 (some 90)) 1861 3 (some 92)) 1861 4 (some 94)) 1861 5 (some 96)))) 1861 6 (some 98)))) 1860 0 (some 1861)) = hA from rfl]
    rw [zAl_ok a0, zAl_ok a1, zAl_ok a2, zAl_ok a3, zAl_ok a4, zAl_ok a5, zAl_ok a6, zAl_ok a7, zAl_ok a8, zAl_ok a9, zAl_ok a10, zAl_ok a11, zAl_ok a12]
    have wB : zAl (zAl (zAl (zAl (zAl (zAl (zAl (zAl (zAl (zAl (zAl (zAl (zAl hA 1860 2 64 16) 1860 3 64 16) 1860 4 64 16) 1860 5 64 16) 1860 6 64 16) 1860 7 64 128) 1860 8 64 12) 1860 9 64 12) 1860 10 64 12) 1860 11 64 6) 1860 12 64 1400) 1860 13 64 3) 1860 14 64 700 = hB := rfl
    rw [wB, zka_eq (show hK hB 1860 = some (6, 0) from aB.1), zlet_e, show zsI hB (zu (hI hB) 1860 24 (-1)) = hC from rfl]
    rw [zAl_ok b0, zAl_ok b1, zAl_ok b2, zAl_ok b3, zAl_ok b4, zAl_ok b5, zAl_ok b6, zAl_ok b7, zAl_ok b8, zAl_ok b9, zAl_ok b10, zAl_ok b11, zAl_ok b12, zAl_ok b13, zAl_ok b14, zAl_ok b15, zAl_ok b16, zAl_ok b17, zAl_ok b18, zAl_ok b19, zAl_ok b20, zAl_ok b21, zAl_ok b22, zAl_ok b23, zAl_ok b24, zAl_ok b25, zAl_ok b26]
    have wC : zAl (zAl (zAl (zAl (zAl (zAl (zAl (zAl (zAl (zAl (zAl (zAl (zAl (zAl (zAl (zAl (zAl (zAl (zAl (zAl (zAl (zAl (zAl (zAl (zAl (zAl (zAl hC 1860 25 64 8) 1860 26 64 8) 1860 27 64 8) 1860 28 64 6) 1860 29 64 6) 1860 30 64 6) 1860 31 64 6) 1860 32 64 6) 1860 33 64 2280) 1860 39 64 7) 1860 40 64 64) 1860 42 64 57) 1860 43 64 8) 1860 44 64 2048) 1860 45 64 64) 1860 46 64 8) 1860 47 64 8) 1860 48 64 8) 1860 49 64 57) 1860 50 64 180) 1860 51 64 1080) 1860 57 64 57) 1860 58 64 2280) 1860 59 64 8) 1860 60 64 8) 1860 61 64 8) 1860 62 64 3 = h' := rfl
    rw [wC]
    have kh : hK h' 1860 = some (6, 0) := by rw [kk _ (by decide)]; exact k60
    have kh2 : hK h' 1862 = some (64, 16) := kk1 0 (by decide) _ (k2 0 (by decide))
    have fh : jF h' 1860 2 = some 1862 := by rw [f60a 2 (by decide)]; exact f4 0 (by decide)
    have d62 : decide (600 ≤ 1862) = true := rfl
    rw [zka_eq kh, fh, zb1_e, zka_eq kh2, show zin 4 16 = true from by decide, zg_true, d62, zg_true, zlet_e]
    rw [zka_eq (show hK (zsI h' (zu (hI h') 1862 4 2)) 1860 = some (6, 0) from kh), show jF (zsI h' (zu (hI h') 1862 4 2)) 1860 2 = some 1862 from fh, zb1_e, zka_eq (show hK (zsI h' (zu (hI h') 1862 4 2)) 1862 = some (64, 16) from kh2), show zin 5 16 = true from by decide, zg_true, d62, zg_true, zlet_e]
    rw [zka_eq (show hK (zsI (zsI h' (zu (hI h') 1862 4 2)) (zu (hI (zsI h' (zu (hI h') 1862 4 2))) 1862 5 3)) 1860 = some (6, 0) from kh), show jF (zsI (zsI h' (zu (hI h') 1862 4 2)) (zu (hI (zsI h' (zu (hI h') 1862 4 2))) 1862 5 3)) 1860 2 = some 1862 from fh, zb1_e, zka_eq (show hK (zsI (zsI h' (zu (hI h') 1862 4 2)) (zu (hI (zsI h' (zu (hI h') 1862 4 2))) 1862 5 3)) 1862 = some (64, 16) from kh2), show zin 6 16 = true from by decide, zg_true, d62, zg_true, zlet_e]
    rfl
  · show hN (zAls hC 1860 lM2) = _; rw [zAls_n, nC]; rfl
  · show hK (zAls hC 1860 lM2) y = _
    rw [p1 y (by omega)]
    exact b0.2.2.2 y (by rw [nC]; omega)
  · show hK h' y = _
    rw [kk y (by omega), gk, if_neg (by omega)]
  · show jF h' y = _
    rw [ff y (by omega) (by omega)]
    show zu (zu (zu (zu (zu (zu (zu (jF g) _ _ _) _ _ _) _ _ _) _ _ _) _ _ _) _ _ _) _ _ _ y = _
    rw [zu_row (by omega), zu_row (by omega), zu_row (by omega), zu_row (by omega), zu_row (by omega), zu_row (by omega), zu_row (by omega)]
    show zu1 (jF h) (hN h) _ y = _
    rw [hn, zu1_off (by omega)]
  · show I2 y = _
    rw [I2o y (by omega)]
    show hI (zAls hC 1860 lM2) y = _
    rw [j1 y (by omega)]
    show zu (hI (zAls hA 1860 lM1)) 1860 24 (-1) y = _
    rw [zu_row (by omega), i1 y (by omega)]
    show zu1 (hI h) (hN h) _ y = _
    rw [hn, zu1_off (by omega)]
  · show zMok (hK h') (jF h') = true
    unfold zMok
    rw [Bool.and_eq_true, decide_eq_true_eq, List.all_eq_true]
    refine ⟨by rw [kk _ (by decide)]; exact k60, ?_⟩
    intro q hq
    rw [Bool.and_eq_true, decide_eq_true_eq, decide_eq_true_eq]
    simp only [zMTab, List.mem_cons, List.not_mem_nil, or_false] at hq
    rcases hq with rfl | rfl | rfl | rfl | rfl | rfl | rfl | rfl | rfl | rfl | rfl | rfl | rfl | rfl | rfl | rfl | rfl | rfl | rfl | rfl | rfl | rfl | rfl | rfl | rfl | rfl | rfl | rfl | rfl | rfl | rfl | rfl | rfl | rfl | rfl | rfl | rfl | rfl | rfl | rfl | rfl
    · refine ⟨?_, by show hK h' 1861 = _; rw [kk _ (by decide)]; exact k61⟩
      show jF h' 1860 0 = _
      rw [f60a 0 (by decide)]
      show jF (zAls hA 1860 lM1) 1860 0 = _
      rw [f2 0 (by decide)]
      exact w60
    · refine ⟨?_, kk1 0 (by decide) _ (k2 0 (by decide))⟩
      show jF h' 1860 2 = _
      rw [f60a 2 (by decide)]
      exact f4 0 (by decide)
    · refine ⟨?_, kk1 1 (by decide) _ (k2 1 (by decide))⟩
      show jF h' 1860 3 = _
      rw [f60a 3 (by decide)]
      exact f4 1 (by decide)
    · refine ⟨?_, kk1 2 (by decide) _ (k2 2 (by decide))⟩
      show jF h' 1860 4 = _
      rw [f60a 4 (by decide)]
      exact f4 2 (by decide)
    · refine ⟨?_, kk1 3 (by decide) _ (k2 3 (by decide))⟩
      show jF h' 1860 5 = _
      rw [f60a 5 (by decide)]
      exact f4 3 (by decide)
    · refine ⟨?_, kk1 4 (by decide) _ (k2 4 (by decide))⟩
      show jF h' 1860 6 = _
      rw [f60a 6 (by decide)]
      exact f4 4 (by decide)
    · refine ⟨?_, kk1 5 (by decide) _ (k2 5 (by decide))⟩
      show jF h' 1860 7 = _
      rw [f60a 7 (by decide)]
      exact f4 5 (by decide)
    · refine ⟨?_, kk1 6 (by decide) _ (k2 6 (by decide))⟩
      show jF h' 1860 8 = _
      rw [f60a 8 (by decide)]
      exact f4 6 (by decide)
    · refine ⟨?_, kk1 7 (by decide) _ (k2 7 (by decide))⟩
      show jF h' 1860 9 = _
      rw [f60a 9 (by decide)]
      exact f4 7 (by decide)
    · refine ⟨?_, kk1 8 (by decide) _ (k2 8 (by decide))⟩
      show jF h' 1860 10 = _
      rw [f60a 10 (by decide)]
      exact f4 8 (by decide)
    · refine ⟨?_, kk1 9 (by decide) _ (k2 9 (by decide))⟩
      show jF h' 1860 11 = _
      rw [f60a 11 (by decide)]
      exact f4 9 (by decide)
    · refine ⟨?_, kk1 10 (by decide) _ (k2 10 (by decide))⟩
      show jF h' 1860 12 = _
      rw [f60a 12 (by decide)]
      exact f4 10 (by decide)
    · refine ⟨?_, kk1 11 (by decide) _ (k2 11 (by decide))⟩
      show jF h' 1860 13 = _
      rw [f60a 13 (by decide)]
      exact f4 11 (by decide)
    · refine ⟨?_, kk1 12 (by decide) _ (k2 12 (by decide))⟩
      show jF h' 1860 14 = _
      rw [f60a 14 (by decide)]
      exact f4 12 (by decide)
    · exact ⟨r4 0 (by decide), p2 0 (by decide)⟩
    · exact ⟨r4 1 (by decide), p2 1 (by decide)⟩
    · exact ⟨r4 2 (by decide), p2 2 (by decide)⟩
    · exact ⟨r4 3 (by decide), p2 3 (by decide)⟩
    · exact ⟨r4 4 (by decide), p2 4 (by decide)⟩
    · exact ⟨r4 5 (by decide), p2 5 (by decide)⟩
    · exact ⟨r4 6 (by decide), p2 6 (by decide)⟩
    · exact ⟨r4 7 (by decide), p2 7 (by decide)⟩
    · exact ⟨r4 8 (by decide), p2 8 (by decide)⟩
    · exact ⟨r4 9 (by decide), p2 9 (by decide)⟩
    · exact ⟨r4 10 (by decide), p2 10 (by decide)⟩
    · exact ⟨r4 11 (by decide), p2 11 (by decide)⟩
    · exact ⟨r4 12 (by decide), p2 12 (by decide)⟩
    · exact ⟨r4 13 (by decide), p2 13 (by decide)⟩
    · exact ⟨r4 14 (by decide), p2 14 (by decide)⟩
    · exact ⟨r4 15 (by decide), p2 15 (by decide)⟩
    · exact ⟨r4 16 (by decide), p2 16 (by decide)⟩
    · exact ⟨r4 17 (by decide), p2 17 (by decide)⟩
    · exact ⟨r4 18 (by decide), p2 18 (by decide)⟩
    · exact ⟨r4 19 (by decide), p2 19 (by decide)⟩
    · exact ⟨r4 20 (by decide), p2 20 (by decide)⟩
    · exact ⟨r4 21 (by decide), p2 21 (by decide)⟩
    · exact ⟨r4 22 (by decide), p2 22 (by decide)⟩
    · exact ⟨r4 23 (by decide), p2 23 (by decide)⟩
    · exact ⟨r4 24 (by decide), p2 24 (by decide)⟩
    · exact ⟨r4 25 (by decide), p2 25 (by decide)⟩
    · exact ⟨r4 26 (by decide), p2 26 (by decide)⟩
  · show jF h' 1861 k = _
    rw [ff _ (by decide) (by decide)]
    have : k = 0 ∨ k = 1 ∨ k = 2 ∨ k = 3 ∨ k = 4 ∨ k = 5 ∨ k = 6 := by omega
    rcases this with rfl | rfl | rfl | rfl | rfl | rfl | rfl <;> rfl
  · show I2 1860 24 = _
    rw [I2o _ (by decide)]
    show hI (zAls hC 1860 lM2) 1860 24 = _
    rw [j1 _ (by decide)]
    show zu (hI (zAls hA 1860 lM1)) 1860 24 (-1) 1860 24 = _
    exact zu_same
  · show I2 1860 k = _
    rw [I2o _ (by decide)]
    show hI (zAls hC 1860 lM2) 1860 k = _
    rw [j1 _ (by decide)]
    show zu (hI (zAls hA 1860 lM1)) 1860 24 (-1) 1860 k = _
    rw [zu_off (by omega), i1 _ (by decide)]
    show zu1 (hI h) (hN h) _ 1860 k = _
    rw [hn, zu1_off (by decide), i0]
  · show zu (zu (zu (hI h') 1862 4 2) 1862 5 3) 1862 6 20 1862 4 = _
    rw [zu_off (by decide), zu_off (by decide), zu_same]
  · show zu (zu (zu (hI h') 1862 4 2) 1862 5 3) 1862 6 20 1862 5 = _
    rw [zu_off (by decide), zu_same]
  · show zu (zu (zu (hI h') 1862 4 2) 1862 5 3) 1862 6 20 1862 6 = _
    exact zu_same
  · show zu (zu (zu (hI h') 1862 4 2) 1862 5 3) 1862 6 20 1862 k = _
    rw [zu_off (by omega), zu_off (by omega), zu_off (by omega), iz 1862 (by decide) (by decide)]
  · show I2 y = _
    rw [I2o y r]
    exact iz y p q
end L94
