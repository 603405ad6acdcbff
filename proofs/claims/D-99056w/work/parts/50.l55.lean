/-! L55: objects made: tools -/
/-- x made, what is from n on is free -/
def zNew (h : zSt) (x kx : Nat) : Prop := hK h x = some (kx, 0) ∧ x < hN h ∧ 600 ≤ x ∧ ∀ y, hN h ≤ y → hK h y = none
/-- an object made and put into a field -/
def zAl (h : zSt) (x f c len : Nat) : zSt := zsF (znA h c len) (zu (jF (znA h c len)) x f (some (hN h)))
def zAls (h : zSt) (x : Nat) : List (Nat × Nat × Nat) → zSt
  | [] => h
  | q :: l => zAls (zAl h x q.1 q.2.1 q.2.2) x l
section L55
variable {h : zSt} {x kx f c len : Nat}
theorem zAl_n : hN (zAl h x f c len) = hN h + 1 := rfl
theorem zAl_k (y : Nat) : hK (zAl h x f c len) y = if y = hN h then some (c, len) else hK h y := rfl
theorem zAl_f (y k : Nat) : jF (zAl h x f c len) y k = if y = x ∧ k = f then some (hN h) else if y = hN h then none else jF h y k := by
  show zu (zu1 (jF h) (hN h) (fun _ => none)) x f (some (hN h)) y k = _
  unfold zu zu1
  by_cases c1 : y = x ∧ k = f
  · rw [if_pos c1, if_pos c1]
  · rw [if_neg c1, if_neg c1]
    by_cases c2 : y = hN h
    · rw [if_pos c2, if_pos c2]
    · rw [if_neg c2, if_neg c2]
theorem zAl_i (y : Nat) : hI (zAl h x f c len) y = if y = hN h then (fun _ => 0) else hI h y := rfl
theorem zAl_fold : zsF (znA h c len) (zu (jF (znA h c len)) x f (some (hN h))) = zAl h x f c len := rfl
theorem zNew_al (z : zNew h x kx) : zNew (zAl h x f c len) x kx := by
  obtain ⟨z1, z2, z3, z4⟩ := z
  refine ⟨?_, ?_, z3, fun y hy => ?_⟩
  · rw [zAl_k, if_neg (by omega)]; exact z1
  · rw [zAl_n]; omega
  · rw [zAl_n] at hy
    rw [zAl_k, if_neg (by omega)]
    exact z4 y (by omega)
theorem zNew_free (z : zNew h x kx) : zfree h = true := by
  obtain ⟨z1, z2, z3, z4⟩ := z
  unfold zfree
  rw [z4 _ (Nat.le_refl _)]
  simp
  omega
theorem zNew_ka {α : Type} (z : zNew h x kx) (g : Nat → Option α) : zka (hK h) x kx g = g 0 := zka_eq z.1
theorem zNew_kn {α : Type} (z : zNew h x kx) (g : Nat → Option α) : zka (hK (znA h c len)) x kx g = g 0 := zka_eq (by
  show zu1 (hK h) (hN h) _ x = _
  rw [zu1_off (by have := z.2.1; omega)]
  exact z.1)
theorem zNew_6 (z : zNew h x kx) : decide (600 ≤ x) = true := decide_eq_true z.2.2.1
theorem zNew_als : ∀ (l : List (Nat × Nat × Nat)) {h : zSt}, zNew h x kx → zNew (zAls h x l) x kx
  | [], _, z => z
  | _ :: l, _, z => zNew_als l (zNew_al z)
theorem zAls_n : ∀ (l : List (Nat × Nat × Nat)) (h : zSt), hN (zAls h x l) = hN h + l.length
  | [], h => rfl
  | q :: l, h => by
    show hN (zAls (zAl h x q.1 q.2.1 q.2.2) x l) = _
    rw [zAls_n l, zAl_n, List.length_cons]
    omega
theorem zAls_k (l : List (Nat × Nat × Nat)) : ∀ (h : zSt), x < hN h → (∀ y, (y < hN h ∨ hN h + l.length ≤ y) → hK (zAls h x l) y = hK h y) ∧ ∀ i (hi : i < l.length), hK (zAls h x l) (hN h + i) = some (l[i].2.1, l[i].2.2) := by
  induction l with
  | nil => exact fun h _ => ⟨fun _ _ => rfl, fun i hi => absurd hi (Nat.not_lt_zero i)⟩
  | cons q l ih =>
    intro h hx
    obtain ⟨g1, g2⟩ := ih (zAl h x q.1 q.2.1 q.2.2) (by rw [zAl_n]; omega)
    rw [zAl_n] at g1 g2
    refine ⟨fun y hy => ?_, fun i hi => ?_⟩
    · rw [List.length_cons] at hy
      show hK (zAls (zAl h x q.1 q.2.1 q.2.2) x l) y = _
      rw [g1 y (by omega), zAl_k, if_neg (by omega)]
    · show hK (zAls (zAl h x q.1 q.2.1 q.2.2) x l) _ = _
      cases i with
      | zero => rw [g1 _ (by omega), zAl_k, if_pos (Nat.add_zero _)]; rfl
      | succ i =>
        rw [List.length_cons] at hi
        rw [show hN h + (i + 1) = hN h + 1 + i by omega, g2 i (by omega)]
        rfl
theorem zAls_i (l : List (Nat × Nat × Nat)) : ∀ (h : zSt), (∀ y, (y < hN h ∨ hN h + l.length ≤ y) → hI (zAls h x l) y = hI h y) ∧ ∀ y, hN h ≤ y → y < hN h + l.length → hI (zAls h x l) y = fun _ => 0 := by
  induction l with
  | nil => exact fun h => ⟨fun _ _ => rfl, fun y h1 h2 => by simp only [List.length_nil] at h2; omega⟩
  | cons q l ih =>
    intro h
    obtain ⟨g1, g2⟩ := ih (zAl h x q.1 q.2.1 q.2.2)
    rw [zAl_n] at g1 g2
    refine ⟨fun y hy => ?_, fun y h1 h2 => ?_⟩
    · rw [List.length_cons] at hy
      show hI (zAls (zAl h x q.1 q.2.1 q.2.2) x l) y = _
      rw [g1 y (by omega), zAl_i, if_neg (by omega)]
    · show hI (zAls (zAl h x q.1 q.2.1 q.2.2) x l) y = _
      rw [List.length_cons] at h2
      by_cases c : y = hN h
      · rw [g1 y (by omega), zAl_i, if_pos c]
      · exact g2 y (by omega) (by omega)
theorem zAls_f (l : List (Nat × Nat × Nat)) : ∀ (h : zSt), x < hN h → (∀ y, y ≠ x → (y < hN h ∨ hN h + l.length ≤ y) → jF (zAls h x l) y = jF h y) ∧ (∀ k, k ∉ l.map (fun q => q.1) → jF (zAls h x l) x k = jF h x k) ∧ ((l.map (fun q => q.1)).Nodup → ∀ i (hi : i < l.length), jF (zAls h x l) x l[i].1 = some (hN h + i)) := by
  induction l with
  | nil => exact fun h _ => ⟨fun _ _ _ => rfl, fun _ _ => rfl, fun _ i hi => absurd hi (Nat.not_lt_zero i)⟩
  | cons q l ih =>
    intro h hx
    obtain ⟨g1, g2, g3⟩ := ih (zAl h x q.1 q.2.1 q.2.2) (by rw [zAl_n]; omega)
    rw [zAl_n] at g1 g3
    refine ⟨fun y hy hy2 => ?_, fun k hk => ?_, fun hn i hi => ?_⟩
    · rw [List.length_cons] at hy2
      show jF (zAls (zAl h x q.1 q.2.1 q.2.2) x l) y = _
      rw [g1 y hy (by omega)]
      funext k
      rw [zAl_f, if_neg (fun e => hy e.1), if_neg (by omega)]
    · rw [List.map_cons, List.mem_cons, not_or] at hk
      show jF (zAls (zAl h x q.1 q.2.1 q.2.2) x l) x k = _
      rw [g2 k hk.2, zAl_f, if_neg (fun e => hk.1 e.2), if_neg (by omega)]
    · rw [List.map_cons, List.nodup_cons] at hn
      show jF (zAls (zAl h x q.1 q.2.1 q.2.2) x l) x _ = _
      cases i with
      | zero =>
        show jF (zAls (zAl h x q.1 q.2.1 q.2.2) x l) x q.1 = _
        rw [g2 q.1 hn.1, zAl_f, if_pos ⟨rfl, rfl⟩]
        rfl
      | succ i =>
        rw [List.length_cons] at hi
        show jF (zAls (zAl h x q.1 q.2.1 q.2.2) x l) x l[i].1 = _
        rw [g3 hn.2 i (by omega), show hN h + 1 + i = hN h + (i + 1) by omega]
end L55
