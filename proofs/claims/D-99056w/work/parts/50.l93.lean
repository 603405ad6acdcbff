/-! L93: the first world: the component -/
section L93
variable {h : zSt}
/-- what is the component's, all parts new -/
def zC0 (h h' : zSt) : Prop := hN h' = 1860 ∧ (∀ y, 1860 ≤ y → hK h' y = none) ∧ (∀ y, y < 1000 → hK h' y = hK h y ∧ jF h' y = jF h y ∧ hI h' y = hI h y) ∧ (hK h' 1000 = some (0, 0) ∧ (jF h' 1000 0 = some 1001 ∧ jF h' 1000 1 = some 1013 ∧ jF h' 1000 2 = some 1430 ∧ jF h' 1000 3 = some 1014 ∧ jF h' 1000 4 = some 1847 ∧ jF h' 1000 6 = some 1857 ∧ jF h' 1000 9 = some 1858 ∧ jF h' 1000 10 = some 1859) ∧ (hI h' 1000 8 = -1 ∧ ∀ k, k ≠ 8 → hI h' 1000 k = 0)) ∧ (hK h' 1857 = some (65, 700) ∧ hK h' 1858 = some (64, 2048) ∧ hK h' 1859 = some (64, 1080)) ∧ zSL (hK h') (jF h') 1847 ∧ (zBL (hK h') (jF h') 1013 ∧ zBL (hK h') (jF h') 1430 ∧ zBO (jF h') 1013 (fun k => k) ∧ zBO (jF h') 1430 (fun k => k)) ∧ (hI h' 1024 2 = nI 40 ∧ hI h' 1441 2 = nI 40 ∧ ∀ y, 1013 ≤ y → y < 1860 → y ≠ 1024 → y ≠ 1441 → hI h' y = fun _ => 0) ∧ (zLK (hK h') (jF h') 1001 ∧ ((hK h' 1003 = some (68, 1) ∧ hK h' 1005 = some (68, 1) ∧ hK h' 1007 = some (68, 1)) ∧ jF h' 1002 1 = some 1003 ∧ jF h' 1004 1 = some 1005 ∧ jF h' 1006 1 = some 1007) ∧ jF h' 1001 9 = none ∧ (hI h' 1001 0 = 2 ∧ hI h' 1001 1 = 3 ∧ hI h' 1001 2 = 20 ∧ hI h' 1001 3 = 0) ∧ ∀ y, 1001 < y → y < 1013 → hI h' y = fun _ => 0)
theorem zLK.kf {K K' : zKd} {F F' : zFd} {a : Nat} (h : zLK K F a) (eK : ∀ y, a ≤ y → y < a + 12 → K' y = K y) (eF : ∀ y, a ≤ y → y < a + 12 → F' y = F y) : zLK K' F' a := by
  unfold zLK at h ⊢
  rw [eK a (by omega) (by omega), eK (a + 7) (by omega) (by omega), eK (a + 8) (by omega) (by omega), eK (a + 9) (by omega) (by omega), eK (a + 11) (by omega) (by omega), eK (a + 1) (by omega) (by omega), eK (a + 3) (by omega) (by omega), eK (a + 5) (by omega) (by omega), eF a (by omega) (by omega), eF (a + 9) (by omega) (by omega)]
  exact h
theorem zBL.kf {K K' : zKd} {F F' : zFd} {B : Nat} (h : zBL K F B) (eK : ∀ y, B ≤ y → y < B + 417 → K' y = K y) (eF : ∀ y, B ≤ y → y < B + 417 → F' y = F y) : zBL K' F' B := by
  obtain ⟨h1, h2, h3, h4, ⟨h5, h6, h7⟩, ⟨h8, h9, h10, h11⟩, h12⟩ := h
  refine ⟨h1, by rw [eK B (by omega) (by omega)]; exact h2, by rw [eF B (by omega) (by omega)]; exact h3, h4.kf (fun y p q => eK y (by omega) (by omega)) (eF _ (by omega) (by omega)), ⟨by rw [eK _ (by omega) (by omega)]; exact h5, by rw [eF _ (by omega) (by omega)]; exact h6, by rw [eK _ (by omega) (by omega)]; exact h7⟩, ⟨by rw [eK _ (by omega) (by omega)]; exact h8, by rw [eK _ (by omega) (by omega)]; exact h9, by rw [eK _ (by omega) (by omega)]; exact h10, by rw [eK _ (by omega) (by omega)]; exact h11⟩, fun j hj => (h12 j hj).kf (fun y p q => eK y (by omega) (by omega)) (eF _ (by omega) (by omega))⟩
theorem zBO.kf {F F' : zFd} {B : Nat} {o : Nat → Nat} (h : zBO F B o) (e : F' (B + 12) = F (B + 12)) : zBO F' B o := ⟨fun k hk => by rw [e]; exact h.1 k hk, h.2⟩
set_option maxHeartbeats 2000000 in
theorem F_X1_init_ok (hn : hN h = 1001) (k0 : hK h 1000 = some (0, 0)) (hf : ∀ y, 1001 ≤ y → hK h y = none) (k17 : hK h 17 = some (70, 7)) (i0 : hI h 1000 = fun _ => 0) : ∃ c h', F_X1_init 1000 h = some (c, h') ∧ c = (859, 10209) ∧ zC0 h h' := by
  have d1000 : decide (600 ≤ 1000) = true := rfl
  -- the land
  let g1 := znA h 1 0
  have g1n : hN g1 = 1002 := by show hN h + 1 = _; rw [hn]
  have g1k : ∀ y, hK g1 y = if y = 1001 then some (1, 0) else hK h y := fun y => by show zu1 (hK h) (hN h) _ y = _; rw [hn]; rfl
  have g1f : ∀ y, jF g1 y = if y = 1001 then (fun _ => none) else jF h y := fun y => by show zu1 (jF h) (hN h) _ y = _; rw [hn]; rfl
  have g1i : ∀ y, hI g1 y = if y = 1001 then (fun _ => 0) else hI h y := fun y => by show zu1 (hI h) (hN h) _ y = _; rw [hn]; rfl
  obtain ⟨s1, a1, a2, a3, a4, a5, a6, a7, a8, a9⟩ := F_X2_init_ok (h := g1) (a := 1001) (by rw [g1k, if_pos rfl]) (by decide) g1n (fun y hy => by rw [g1k, if_neg (by omega)]; exact hf y (by omega)) (by rw [g1k, if_neg (by decide)]; exact k17) (by rw [g1f, if_pos rfl]) (by rw [g1i, if_pos rfl])
  have b1 : ∀ y, y < 1001 → hK s1 y = hK h y ∧ jF s1 y = jF h y ∧ hI s1 y = hI h y := fun y hy => by
    obtain ⟨q1, q2, q3⟩ := a8 y hy
    rw [q1, q2, q3, g1k, g1f, g1i, if_neg (by omega), if_neg (by omega), if_neg (by omega)]
    exact ⟨rfl, rfl, rfl⟩
  let s2 := zsF s1 (zu (jF s1) 1000 0 (some 1001))
  -- a Book
  let g2 := znA s2 4 0
  have g2n : hN g2 = 1014 := by show hN s1 + 1 = _; rw [a2]
  have g2k : ∀ y, hK g2 y = if y = 1013 then some (4, 0) else hK s1 y := fun y => by show zu1 (hK s1) (hN s1) _ y = _; rw [a2]; rfl
  have g2f : ∀ y, jF g2 y = if y = 1013 then (fun _ => none) else zu (jF s1) 1000 0 (some 1001) y := fun y => by show zu1 (zu (jF s1) 1000 0 (some 1001)) (hN s1) _ y = _; rw [a2]; rfl
  have g2i : ∀ y, hI g2 y = if y = 1013 then (fun _ => 0) else hI s1 y := fun y => by show zu1 (hI s1) (hN s1) _ y = _; rw [a2]; rfl
  obtain ⟨s3, c1, c2, c3, c4, c5, c6, c7, c8, c9⟩ := F_X5_init_ok (h := g2) (B := 1013) (by rw [g2k, if_pos rfl]) (by decide) g2n (fun y hy => by rw [g2k, if_neg (by omega)]; exact a3 y (by omega))
  let s4 := zsF s3 (zu (jF s3) 1000 1 (some 1013))
  let g3 := znA s4 4 0
  have g3n : hN g3 = 1431 := by show hN s3 + 1 = _; rw [c2]
  have g3k : ∀ y, hK g3 y = if y = 1430 then some (4, 0) else hK s3 y := fun y => by show zu1 (hK s3) (hN s3) _ y = _; rw [c2]; rfl
  have g3f : ∀ y, jF g3 y = if y = 1430 then (fun _ => none) else zu (jF s3) 1000 1 (some 1013) y := fun y => by show zu1 (zu (jF s3) 1000 1 (some 1013)) (hN s3) _ y = _; rw [c2]; rfl
  have g3i : ∀ y, hI g3 y = if y = 1430 then (fun _ => 0) else hI s3 y := fun y => by show zu1 (hI s3) (hN s3) _ y = _; rw [c2]; rfl
  obtain ⟨s5, e1, e2, e3, e4, e5, e6, e7, e8, e9⟩ := F_X5_init_ok (h := g3) (B := 1430) (by rw [g3k, if_pos rfl]) (by decide) g3n (fun y hy => by rw [g3k, if_neg (by omega)]; exact c3 y (by omega))
  let s6 := zsF (zsF s5 (zu (jF s5) 1000 2 (some 1430))) (zu (zu (jF s5) 1000 2 (some 1430)) 1000 3 (some 1014))
  have n6 : hN s6 = 1847 := e2
  -- a State
  obtain ⟨s7, u1, u2, u3, u4, u5, u6⟩ := zX6_new (h := s6) (fun y hy => e3 y (by omega)) (by omega)
  rw [n6] at u1 u2 u3 u4 u5 u6
  let s8 := zsF s7 (zu (jF s7) 1000 4 (some 1847))
  have K8 : ∀ y, y < 1847 → hK s8 y = hK s5 y := fun y hy => (u5 y hy).1
  have k8 : hK s8 1000 = some (0, 0) := by rw [K8 _ (by decide), (e6 _ (by decide)).1, g3k, if_neg (by decide), (c6 _ (by decide)).1, g2k, if_neg (by decide), (b1 _ (by decide)).1]; exact k0
  have z8 : zNew s8 1000 0 := ⟨k8, by show 1000 < hN s7; omega, by decide, fun y hy => u3 y (by have : hN s7 ≤ y := hy; omega)⟩
  have z9 := zNew_al (f := 6) (c := 65) (len := 700) z8
  let s9 := zAl s8 1000 6 65 700
  let s10 := zsI s9 (zu (hI s9) 1000 8 (-1))
  have z10 : zNew s10 1000 0 := z9
  have z11 := zNew_al (f := 9) (c := 64) (len := 2048) z10
  let h' := zAl (zAl s10 1000 9 64 2048) 1000 10 64 1080
  have n8 : hN s8 = 1857 := u2
  have kk : ∀ y, y < 1857 → hK h' y = hK s7 y := fun y hy => by
    show hK (zAl (zAl s10 1000 9 64 2048) 1000 10 64 1080) y = _
    rw [zAl_k, if_neg (by rw [zAl_n]; show ¬ y = hN s8 + 1 + 1; omega), zAl_k, if_neg (by show ¬ y = hN s8 + 1; omega)]
    show hK (zAl s8 1000 6 65 700) y = _
    rw [zAl_k, if_neg (by omega)]
    rfl
  have ff : ∀ y k, y < 1857 → (y ≠ 1000 ∨ (k ≠ 4 ∧ k ≠ 6 ∧ k ≠ 9 ∧ k ≠ 10)) → jF h' y k = jF s7 y k := fun y k hy hk => by
    show jF (zAl (zAl s10 1000 9 64 2048) 1000 10 64 1080) y k = _
    rw [zAl_f, if_neg (by omega), if_neg (by rw [zAl_n]; show ¬ y = hN s8 + 1 + 1; omega), zAl_f, if_neg (by omega), if_neg (by show ¬ y = hN s8 + 1; omega)]
    show jF (zAl s8 1000 6 65 700) y k = _
    rw [zAl_f, if_neg (by omega), if_neg (by omega)]
    show zu (jF s7) 1000 4 (some 1847) y k = _
    rw [zu_off (by omega)]
  have ii : ∀ y k, (y ≠ 1000 ∨ k ≠ 8) → hI h' y k = if 1857 ≤ y ∧ y < 1860 then 0 else hI s7 y k := fun y k hk => by
    have e : ∀ (s : zSt) (x f c len y : Nat), hI (zAl s x f c len) y k = if y = hN s then 0 else hI s y k := fun s x f c len y => by
      rw [zAl_i]
      split <;> rfl
    show hI (zAl (zAl s10 1000 9 64 2048) 1000 10 64 1080) y k = _
    rw [e, e]
    show (if y = hN s8 + 1 + 1 then 0 else if y = hN s8 + 1 then 0 else zu (hI s9) 1000 8 (-1) y k) = _
    rw [zu_off (by omega)]
    show (if y = hN s8 + 1 + 1 then 0 else if y = hN s8 + 1 then 0 else hI (zAl s8 1000 6 65 700) y k) = _
    rw [e, n8]
    by_cases c : 1857 ≤ y ∧ y < 1860
    · rw [if_pos c]
      by_cases c1 : y = 1859
      · rw [if_pos c1]
      · rw [if_neg c1]
        by_cases c2 : y = 1858
        · rw [if_pos c2]
        · rw [if_neg c2, if_pos (by omega)]
    · rw [if_neg c, if_neg (by omega), if_neg (by omega), if_neg (by omega)]
      rfl
  have F7 : ∀ y, y < 1847 → jF s7 y = zu (zu (jF s5) 1000 2 (some 1430)) 1000 3 (some 1014) y := fun y hy => (u5 y hy).2.1
  have F7' : ∀ y, y < 1847 → y ≠ 1000 → jF s7 y = jF s5 y := fun y hy h0 => by rw [F7 y hy, zu_row h0, zu_row h0]
  have F3 : ∀ y, y < 1430 → y ≠ 1000 → jF s5 y = jF s3 y := fun y hy h0 => by rw [(e6 y hy).2.1, g3f, if_neg (by omega), zu_row h0]
  have K3 : ∀ y, y < 1430 → hK s5 y = hK s3 y := fun y hy => by rw [(e6 y hy).1, g3k, if_neg (by omega)]
  have I3 : ∀ y, y < 1430 → hI s5 y = hI s3 y := fun y hy => by rw [(e6 y hy).2.2, g3i, if_neg (by omega)]
  have F1 : ∀ y, y < 1013 → y ≠ 1000 → jF s3 y = jF s1 y := fun y hy h0 => by rw [(c6 y hy).2.1, g2f, if_neg (by omega), zu_row h0]
  have K1 : ∀ y, y < 1013 → hK s3 y = hK s1 y := fun y hy => by rw [(c6 y hy).1, g2k, if_neg (by omega)]
  have I1 : ∀ y, y < 1013 → hI s3 y = hI s1 y := fun y hy => by rw [(c6 y hy).2.2, g2i, if_neg (by omega)]
  have KK5 : ∀ y, y < 1847 → hK h' y = hK s5 y := fun y hy => by rw [kk y (by omega), (u5 y hy).1]; rfl
  have FF5 : ∀ y, y < 1847 → y ≠ 1000 → jF h' y = jF s5 y := fun y hy h0 => by
    funext k
    rw [ff y k (by omega) (Or.inl h0), F7' y hy h0]
  have II5 : ∀ y, y < 1847 → y ≠ 1000 → hI h' y = hI s5 y := fun y hy h0 => by
    funext k
    rw [ii y k (Or.inl h0), if_neg (by omega), (u5 y hy).2.2]
    rfl
  have F1000 : ∀ k, k ≠ 4 → k ≠ 6 → k ≠ 9 → k ≠ 10 → k ≠ 3 → k ≠ 2 → jF h' 1000 k = zu (zu (jF s1) 1000 0 (some 1001)) 1000 1 (some 1013) 1000 k := fun k h4 h6 h9 h10 h3 h2 => by
    rw [ff 1000 k (by decide) (Or.inr ⟨h4, h6, h9, h10⟩), F7 _ (by decide), zu_off (by omega), zu_off (by omega), (e6 _ (by decide)).2.1, g3f, if_neg (by decide)]
    unfold zu
    by_cases c : (1000 : Nat) = 1000 ∧ k = 1
    · rw [if_pos c, if_pos c]
    · rw [if_neg c, if_neg c]
      rw [(c6 _ (by decide)).2.1, g2f, if_neg (by decide)]
      rfl
  refine ⟨_, h', ?_, rfl, ?_, fun y hy => ?_, fun y hy => ⟨?_, ?_, ?_⟩, ⟨?_, ⟨?_, ?_, ?_, ?_, ?_, ?_, ?_, ?_⟩, ?_, fun k hk => ?_⟩, ⟨?_, ?_, ?_⟩, ?_, ⟨?_, ?_, ?_, ?_⟩, ⟨?_, ?_, fun y p q r r2 => ?_⟩, ⟨?_, ⟨⟨?_, ?_, ?_⟩, ?_, ?_, ?_⟩, ?_, ⟨?_, ?_, ?_, ?_⟩, fun y p q => ?_⟩⟩
  · have fr0 : zfree h = true := fr_of (by rw [hn]; exact hf _ (by decide)) (by omega)
    have n2 : hN s2 = 1013 := a2
    have fr2 : zfree s2 = true := fr_of (by rw [n2]; exact a3 _ (by decide)) (by omega)
    have n4 : hN s4 = 1430 := c2
    have fr4 : zfree s4 = true := fr_of (by rw [n4]; exact c3 _ (by decide)) (by omega)
    have fr6 : zfree s6 = true := fr_of (by rw [n6]; exact e3 _ (by decide)) (by omega)
    have ks1 : hK s1 1000 = some (0, 0) := by rw [(b1 _ (by decide)).1]; exact k0
    have ks3 : hK s3 1000 = some (0, 0) := by rw [K1 _ (by decide)]; exact ks1
    have ks5 : hK s5 1000 = some (0, 0) := by rw [K3 _ (by decide)]; exact ks3
    have ks7 : hK s7 1000 = some (0, 0) := k8
    have ks5' : hK (zsF s5 (zu (jF s5) 1000 2 (some 1430))) 1000 = some (0, 0) := ks5
    have q13 : hK (zsF s5 (zu (jF s5) 1000 2 (some 1430))) 1013 = some (4, 0) := by
      show hK s5 1013 = _
      rw [K3 _ (by decide)]
      exact c4.2.1
    have q1 : jF (zsF s5 (zu (jF s5) 1000 2 (some 1430))) 1000 1 = some 1013 := by
      show zu (jF s5) 1000 2 (some 1430) 1000 1 = _
      rw [zu_off (by decide), (e6 _ (by decide)).2.1, g3f, if_neg (by decide), zu_same]
    have q0 : jF (zsF s5 (zu (jF s5) 1000 2 (some 1430))) 1013 0 = some 1014 := by
      show zu (jF s5) 1000 2 (some 1430) 1013 0 = _
      rw [zu_row (by decide), F3 _ (by decide) (by decide)]
      exact c4.2.2.1.1
    have d13 : decide (600 ≤ 1013) = true := rfl
    unfold F_X1_init
    rw [fr0, zg_true, zlet_e, zlet_e, hn, show znA h 1 0 = g1 from rfl, a1, zc1_e, zka_eq ks1, d1000, zg_true, zlet_e, show zsF s1 (zu (jF s1) 1000 0 (some 1001)) = s2 from rfl]
    rw [fr2, zg_true, zlet_e, zlet_e, n2, show znA s2 4 0 = g2 from rfl, c1, zc1_e, zka_eq ks3, zlet_e, show zsF s3 (zu (jF s3) 1000 1 (some 1013)) = s4 from rfl]
    rw [fr4, zg_true, zlet_e, zlet_e, n4, show znA s4 4 0 = g3 from rfl, e1, zc1_e, zka_eq ks5, zlet_e]
    rw [zka_eq ks5', q1, zb1_e, zka_eq q13, d13, zg_true, q0, zb1_e, zlet_e, show zsF (zsF s5 (zu (jF s5) 1000 2 (some 1430))) (zu (jF (zsF s5 (zu (jF s5) 1000 2 (some 1430)))) 1000 3 (some 1014)) = s6 from rfl]
    rw [fr6, zg_true, zlet_e, zlet_e, n6, u1, zc1_e, zka_eq ks7, zlet_e, show zsF s7 (zu (jF s7) 1000 4 (some 1847)) = s8 from rfl]
    rw [zAl_ok z8, zka_eq (show hK (zAl s8 1000 6 65 700) 1000 = some (0, 0) from z9.1), zlet_e, show zsI (zAl s8 1000 6 65 700) (zu (hI (zAl s8 1000 6 65 700)) 1000 8 (-1)) = s10 from rfl, zAl_ok z10, zAl_ok z11]
    rfl
  · show hN s8 + 1 + 1 + 1 = _; rw [n8]
  · show hK (zAl (zAl s10 1000 9 64 2048) 1000 10 64 1080) y = _
    rw [zAl_k, if_neg (by rw [zAl_n]; show ¬ y = hN s8 + 1 + 1; omega), zAl_k, if_neg (by show ¬ y = hN s8 + 1; omega)]
    show hK (zAl s8 1000 6 65 700) y = _
    rw [zAl_k, if_neg (by omega)]
    exact u3 y (by omega)
  · rw [KK5 y (by omega), K3 y (by omega), K1 y (by omega)]; exact (b1 y (by omega)).1
  · rw [FF5 y (by omega) (by omega), F3 y (by omega) (by omega), F1 y (by omega) (by omega)]; exact (b1 y (by omega)).2.1
  · rw [II5 y (by omega) (by omega), I3 y (by omega), I1 y (by omega)]; exact (b1 y (by omega)).2.2
  · rw [kk _ (by decide)]; exact k8
  · rw [F1000 0 (by decide) (by decide) (by decide) (by decide) (by decide) (by decide), zu_off (by decide), zu_same]
  · rw [F1000 1 (by decide) (by decide) (by decide) (by decide) (by decide) (by decide), zu_same]
  · rw [ff 1000 2 (by decide) (by decide), F7 _ (by decide), zu_off (by decide), zu_same]
  · rw [ff 1000 3 (by decide) (by decide), F7 _ (by decide), zu_same]
  · show jF (zAl (zAl s10 1000 9 64 2048) 1000 10 64 1080) 1000 4 = _
    rw [zAl_f, if_neg (by decide), if_neg (by rw [zAl_n]; show ¬ 1000 = hN s8 + 1 + 1; omega), zAl_f, if_neg (by decide), if_neg (by show ¬ 1000 = hN s8 + 1; omega)]
    show jF (zAl s8 1000 6 65 700) 1000 4 = _
    rw [zAl_f, if_neg (by decide), if_neg (by omega)]
    show zu (jF s7) 1000 4 (some 1847) 1000 4 = _
    exact zu_same
  · show jF (zAl (zAl s10 1000 9 64 2048) 1000 10 64 1080) 1000 6 = _
    rw [zAl_f, if_neg (by decide), if_neg (by rw [zAl_n]; show ¬ 1000 = hN s8 + 1 + 1; omega), zAl_f, if_neg (by decide), if_neg (by show ¬ 1000 = hN s8 + 1; omega)]
    show jF (zAl s8 1000 6 65 700) 1000 6 = _
    rw [zAl_f, if_pos ⟨rfl, rfl⟩, n8]
  · show jF (zAl (zAl s10 1000 9 64 2048) 1000 10 64 1080) 1000 9 = _
    rw [zAl_f, if_neg (by decide), if_neg (by rw [zAl_n]; show ¬ 1000 = hN s8 + 1 + 1; omega), zAl_f, if_pos ⟨rfl, rfl⟩]
    show some (hN s8 + 1) = _
    rw [n8]
  · show jF (zAl (zAl s10 1000 9 64 2048) 1000 10 64 1080) 1000 10 = _
    rw [zAl_f, if_pos ⟨rfl, rfl⟩]
    show some (hN s8 + 1 + 1) = _
    rw [n8]
  · have e : ∀ (s : zSt) (x f c len : Nat), 1000 < hN s → hI (zAl s x f c len) 1000 = hI s 1000 := fun s x f c len hs => by
      rw [zAl_i, if_neg (by omega)]
    show hI (zAl (zAl s10 1000 9 64 2048) 1000 10 64 1080) 1000 8 = _
    rw [e _ _ _ _ _ (by show 1000 < hN s8 + 1 + 1; omega), e _ _ _ _ _ (by show 1000 < hN s8 + 1; omega)]
    show zu (hI s9) 1000 8 (-1) 1000 8 = _
    exact zu_same
  · rw [ii 1000 k (Or.inr hk), if_neg (by decide), (u5 _ (by decide)).2.2]
    show hI s5 1000 k = _
    rw [I3 _ (by decide), I1 _ (by decide), (b1 _ (by decide)).2.2, i0]
  · show hK (zAl (zAl s10 1000 9 64 2048) 1000 10 64 1080) 1857 = _
    rw [zAl_k, if_neg (by rw [zAl_n]; show ¬ 1857 = hN s8 + 1 + 1; omega), zAl_k, if_neg (by show ¬ 1857 = hN s8 + 1; omega)]
    show hK (zAl s8 1000 6 65 700) 1857 = _
    rw [zAl_k, if_pos n8.symm]
  · show hK (zAl (zAl s10 1000 9 64 2048) 1000 10 64 1080) 1858 = _
    rw [zAl_k, if_neg (by rw [zAl_n]; show ¬ 1858 = hN s8 + 1 + 1; omega), zAl_k, if_pos (by show 1858 = hN s8 + 1; omega)]
  · show hK (zAl (zAl s10 1000 9 64 2048) 1000 10 64 1080) 1859 = _
    rw [zAl_k, if_pos (by rw [zAl_n]; show 1859 = hN s8 + 1 + 1; omega)]
  · exact u4.kf (fun y p q => kk y (by omega)) (funext fun k => ff _ k (by decide) (Or.inl (by decide)))
  · exact c4.kf (fun y p q => by rw [KK5 y (by omega), K3 y (by omega)]) (fun y p q => by rw [FF5 y (by omega) (by omega), F3 y (by omega) (by omega)])
  · exact e4.kf (fun y p q => KK5 y (by omega)) (fun y p q => FF5 y (by omega) (by omega))
  · exact c5.kf (by rw [FF5 _ (by decide) (by decide), F3 _ (by decide) (by decide)])
  · exact e5.kf (FF5 _ (by decide) (by decide))
  · rw [II5 _ (by decide) (by decide), I3 _ (by decide)]; exact c8
  · rw [II5 _ (by decide) (by decide)]; exact e8
  · by_cases q1 : y < 1847
    · rw [II5 y q1 (by omega)]
      by_cases q2 : y < 1430
      · rw [I3 y q2]
        by_cases q3 : y = 1013
        · rw [q3, c7, g2i, if_pos rfl]
        · exact c9 y (by omega) (by omega) (by omega)
      · by_cases q3 : y = 1430
        · rw [q3, e7, g3i, if_pos rfl]
        · exact e9 y (by omega) (by omega) (by omega)
    · funext k
      rw [ii y k (Or.inl (by omega))]
      by_cases q2 : 1857 ≤ y ∧ y < 1860
      · rw [if_pos q2]
      · rw [if_neg q2, u6 y (by omega) (by omega)]
  · exact a4.kf (fun y p q => by rw [KK5 y (by omega), K3 y (by omega), K1 y (by omega)]) (fun y p q => by rw [FF5 y (by omega) (by omega), F3 y (by omega) (by omega), F1 y (by omega) (by omega)])
  · rw [KK5 _ (by decide), K3 _ (by decide), K1 _ (by decide)]; exact a5.1.1
  · rw [KK5 _ (by decide), K3 _ (by decide), K1 _ (by decide)]; exact a5.1.2.1
  · rw [KK5 _ (by decide), K3 _ (by decide), K1 _ (by decide)]; exact a5.1.2.2
  · rw [FF5 _ (by decide) (by decide), F3 _ (by decide) (by decide), F1 _ (by decide) (by decide)]; exact a5.2.1
  · rw [FF5 _ (by decide) (by decide), F3 _ (by decide) (by decide), F1 _ (by decide) (by decide)]; exact a5.2.2.1
  · rw [FF5 _ (by decide) (by decide), F3 _ (by decide) (by decide), F1 _ (by decide) (by decide)]; exact a5.2.2.2
  · rw [FF5 _ (by decide) (by decide), F3 _ (by decide) (by decide), F1 _ (by decide) (by decide)]; exact a6
  · rw [II5 _ (by decide) (by decide), I3 _ (by decide), I1 _ (by decide)]; exact a7.1
  · rw [II5 _ (by decide) (by decide), I3 _ (by decide), I1 _ (by decide)]; exact a7.2.1
  · rw [II5 _ (by decide) (by decide), I3 _ (by decide), I1 _ (by decide)]; exact a7.2.2.1
  · rw [II5 _ (by decide) (by decide), I3 _ (by decide), I1 _ (by decide)]; exact a7.2.2.2
  · rw [II5 y (by omega) (by omega), I3 y (by omega), I1 y (by omega)]; exact a9 y (by omega) (by omega)
end L93
