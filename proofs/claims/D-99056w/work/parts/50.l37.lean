/-! L37: the component's book -/
abbrev zBk : Type := zS × (Nat × (Nat → zS)) × zSpd × (Nat → Int32)
abbrev bS (b : zBk) : zS := b.1
abbrev bA (b : zBk) : Nat := b.2.1.1
abbrev bP (b : zBk) : Nat → zS := b.2.1.2
abbrev bSp (b : zBk) : zSpd := b.2.2.1
abbrev bR (b : zBk) : Nat → Int32 := b.2.2.2
/-- a Book's layout at B -/
def zBL (K : zKd) (F : zFd) (B : Nat) : Prop := 600 ≤ B ∧ K B = some (4, 0) ∧ (F B 0 = some (B + 1) ∧ F B 1 = some (B + 11) ∧ F B 2 = some (B + 13) ∧ F B 3 = some (B + 14) ∧ F B 4 = some (B + 15) ∧ F B 5 = some (B + 16)) ∧ zSL K F (B + 1) ∧ (K (B + 11) = some (2, 0) ∧ F (B + 11) 1 = some (B + 12) ∧ K (B + 12) = some (68, 40)) ∧ (K (B + 13) = some (64, 8) ∧ K (B + 14) = some (64, 8) ∧ K (B + 15) = some (64, 8) ∧ K (B + 16) = some (64, 3)) ∧ ∀ j, j < 40 → zSL K F (B + 17 + 10 * j)
/-- the order of the States kept -/
def zBO (F : zFd) (B : Nat) (o : Nat → Nat) : Prop := (∀ k, k < 40 → o k < 40 ∧ F (B + 12) k = some (B + 17 + 10 * o k)) ∧ ∀ i j, i < 40 → j < 40 → o i = o j → i = j
/-- what a Book holds -/
def zBV (nf nb : Nat) (I : zId) (B : Nat) (o : Nat → Nat) (b : zBk) : Prop := I (B + 11) 2 = nI 40 ∧ zcv nf nb I (B + 1) = bS b ∧ (I B 6 = nI (bA b) ∧ bA b ≤ 40) ∧ (∀ k, k < bA b → zcv nf nb I (B + 17 + 10 * o k) = bP b k) ∧ (I B 7 = nI (bSp b).1 ∧ ∀ k, k < (bSp b).1 → I (B + 13) k = nI ((bSp b).2.1 k) ∧ I (B + 14) k = (bSp b).2.2.1 k ∧ I (B + 15) k = (bSp b).2.2.2 k) ∧ ∀ i, i < 3 → I (B + 16) i = bR b i
def bKeep (b : zBk) : zBk := (bS b, if bA b = 40 then (40, fun k => if k = 39 then bS b else bP b (k + 1)) else (bA b + 1, fun k => if k = bA b then bS b else bP b k), bSp b, bR b)
theorem zSL.cF {K : zKd} {F F' : zFd} {o : Nat} (h : zSL K F o) (e : F' o = F o) : zSL K F' o := by
  unfold zSL
  rw [e]
  exact h
theorem zpay_e {a : Type} (c1 c2 d1 d2 : Nat) (y : a) : zpay (c1, c2) (some ((d1, d2), y)) = some ((d1 + c1, d2 + c2), y) := rfl
theorem zc1_e {a g : Type} (c : Nat × Nat) (y : a) (f : Nat × Nat → a → Option g) : zc1 (some (c, y)) f = f c y := rfl
section L37
variable {K : zKd} {F : zFd} {I : zId} {L : zLd} {n nf nb B : Nat} {o : Nat → Nat} {b : zBk}
theorem zBG (hB : zBL K F B) (ho : zBO F B o) {J : zId} (hs : J (B + 11) 2 = nI 40) {k : Nat} (hk : k < 40) : F_J2_get K F (B + 11) (nI k) J = some (some (B + 17 + 10 * o k)) := by
  obtain ⟨b6, -, -, -, ⟨l1, l2, l3⟩, -⟩ := hB
  exact zAL_get (E := B + 12) (n := 40) ⟨by omega, l1, l2, ⟨40, l3, Nat.le_refl _⟩, hs⟩ (by decide) hk (ho.1 k hk).2
/-- now into the State kept at k -/
theorem F_keep_like (hB : zBL K F B) (ho : zBO F B o) {J : zId} {k : Nat} (hk : k < 40) : F_X6_like K F (B + 17 + 10 * o k) (B + 1) J = some (zlk J (B + 17 + 10 * o k) (B + 1)) := F_like_ok (hB.2.2.2.2.2.2 _ (ho.1 k hk).1) hB.2.2.2.1 (by omega)
theorem F_add_ok {lst E s cap x m : Nat} (h6 : 600 ≤ lst) (h66 : 600 ≤ E) (k1 : K lst = some (2, 0)) (f1 : F lst 1 = some E) (k2 : K E = some (68, cap)) (hs : I lst 2 = nI s) (hsc : s < cap) (hc : cap < 100000) (hx : K x = some (m, 0)) (hm : m = 5 ∨ m = 9 ∨ m = 10 ∨ m = 17) : F_J2_add lst x (n, K, F, I, L) = some ((0, 0), (1, (n, K, zu F E s (some x), zu (zu I lst 0 (I lst 0 + 1)) lst 2 (nI (s + 1)), L))) := by
  have hkl : ∀ {α : Type} (f : Nat → Option α), zkl K x f = f m := fun f => by unfold zkl; rw [hx]; exact if_pos hm
  have e2 : zu I lst 0 (I lst 0 + 1) lst 2 = nI s := by rw [zu_off (by omega)]; exact hs
  have hne : (nI s = nI cap) ↔ s = cap := nI_eq (by omega) (by omega)
  simp only [F_J2_add, F_J2_add_2, hK, jF, hI, hN, hL, zsI, zsF, ↓reduceIte, zg_true, zb1_e, zlet_e, ↓zka_eq k1, decide_eq_true h6, decide_eq_true h66, f1, ↓zka_eq k2, e2, hne, show ¬ s = cap by omega, not_false_eq_true, zin_n hsc (show cap < 2 ^ 31 by omega), nI_c (show s < 2147483648 by omega), hkl, zc1_e, zpay_e, nI_1]
theorem F_rem_ok (hB : zBL K F B) (ho : zBO F B o) (hs : I (B + 11) 2 = nI 40) : F_J2_remove K F (B + 11) 0 I = some (some (B + 17 + 10 * o 0), zu (zcpyF F (B + 12) 1 (B + 12) 0 39) (B + 12) 39 none, zu (zu I (B + 11) 0 (I (B + 11) 0 + 1)) (B + 11) 2 (nI 39)) := by
  obtain ⟨b6, kB, -, -, ⟨l1, l2, l3⟩, -, hst⟩ := hB
  have o0 := ho.1 0 (by decide)
  have hcq : zcpfq K F (B + 12) 1 39 = true := by
    unfold zcpfq
    rw [List.all_eq_true]
    intro i hi
    rw [List.mem_range] at hi
    have h1 := ho.1 (1 + i) (by omega)
    rw [h1.2]
    unfold zoel
    dsimp only
    rw [(hst _ h1.1).2.1]
    rfl
  have e2 : zu I (B + 11) 0 (I (B + 11) 0 + 1) (B + 11) 2 = nI 40 := by rw [zu_off (by omega)]; exact hs
  have d11 : decide (600 ≤ B + 11) = true := decide_eq_true (by omega)
  have d12 : decide (600 ≤ B + 12) = true := decide_eq_true (by omega)
  have chk : F_J19_checkIndex K F 0 (nI 40) I = some 0 := by simp (decide := true) only [F_J19_checkIndex, F_J14_checkIndex, ↓reduceIte, zb1_e]
  have e39 : nI 40 - 1 = nI 39 := nI_pred 39
  have e0 : F (B + 12) (0 : Int32).toNatClampNeg = some (B + 17 + 10 * o 0) := o0.2
  have hck : zcpok ((0 : Int32) + 1) 0 (nI 39 - 0) 40 40 = true := by decide
  have y1 : ((0 : Int32) + 1).toNatClampNeg = 1 := by decide
  have y2 : (nI 39 - 0).toNatClampNeg = 39 := by decide
  have y3 : (0 : Int32).toNatClampNeg = 0 := by decide
  have y4 : (nI 39).toNatClampNeg = 39 := by decide
  simp only [F_J2_remove, F_J2_fastRemove, ↓zka_eq l1, ↓zka_eq l3, d11, d12, zg_true, hs, chk, zb1_e, l2, show zin 0 40 = true by decide, e0, o0.2, zlet_e, e2, e39, show ¬ nI 39 ≤ 0 by decide, ↓reduceIte, hck, y1, y2, y3, y4, hcq, show zin (nI 39) 40 = true by decide, zb2_e]
/-- what a State kept anew leaves -/
theorem zBV_keep (hf : nf ≤ 8) (hb : nb ≤ 6) {J : zId} {o' : Nat → Nat} {k : Nat} {b' : zBk} (hk : k < 40) (ho : ∀ i j, i < 40 → j < 40 → o' i = o' j → i = j) (hS : zcv nf nb J (B + 1) = bS b') (hl : J (B + 11) 2 = nI 40) (hA : bA b' = k + 1) (hp : ∀ i, i < k → zcv nf nb J (B + 17 + 10 * o' i) = bP b' i) (hpk : bP b' k = bS b') (hm : J B 7 = nI (bSp b').1) (hs : ∀ k, k < (bSp b').1 → J (B + 13) k = nI ((bSp b').2.1 k) ∧ J (B + 14) k = (bSp b').2.2.1 k ∧ J (B + 15) k = (bSp b').2.2.2 k) (hr : ∀ i, i < 3 → J (B + 16) i = bR b' i) : zBV nf nb (zu (zlk J (B + 17 + 10 * o' k) (B + 1)) B 6 (nI (k + 1))) B o' b' := by
  have hrow : ∀ x, x ≠ B → x < B + 17 → zu (zlk J (B + 17 + 10 * o' k) (B + 1)) B 6 (nI (k + 1)) x = J x := fun x h1 h2 => by rw [zu_row h1, zlk_off (by omega)]
  refine ⟨by rw [hrow _ (by omega) (by omega)]; exact hl, ?_, ⟨by rw [zu_same, hA], by omega⟩, fun i hi => ?_, ⟨by rw [zu_off (by omega), zlk_off (by omega)]; exact hm, fun i hi => ?_⟩, fun i hi => by rw [hrow _ (by omega) (by omega)]; exact hr i hi⟩
  · rw [← hS]
    exact zcv_row fun x h1 h2 => hrow x (by omega) (by omega)
  · rw [zcvo (by omega)]
    by_cases e : i = k
    · rw [e, zlk_cv hf hb (by omega), hS, hpk]
    · rw [← hp i (by omega)]
      have hne : o' i ≠ o' k := fun q => e (ho i k (by omega) hk q)
      exact zcv_row fun x h1 h2 => zlk_off (by omega)
  · rw [hrow _ (by omega) (by omega), hrow _ (by omega) (by omega), hrow _ (by omega) (by omega)]
    exact hs i hi
set_option maxHeartbeats 1000000 in
theorem F_keeps_ok (hf : nf ≤ 8) (hb : nb ≤ 6) (hB : zBL K F B) (ho : zBO F B o) (hV : zBV nf nb I B o b) : ∃ (F' : zFd) (I' : zId) (o' : Nat → Nat), F_X5_keeps B (n, K, F, I, L) = some ((0, 0), (n, K, F', I', L)) ∧ (∀ x, x ≠ B + 12 → F' x = F x) ∧ zBO F' B o' ∧ zBV nf nb I' B o' (bKeep b) ∧ (∀ x k, (x < B + 17 ∨ B + 417 ≤ x) → x ≠ B + 11 → (x ≠ B ∨ k ≠ 6) → I' x k = I x k) := by
  obtain ⟨v1, v2, ⟨v3, v4⟩, v5, v6, v7⟩ := hV
  have hB0 := hB
  have ho0 := ho
  obtain ⟨b6, kB, ⟨g0, g1, g2, g3, g4, g5⟩, hS, ⟨l1, l2, l3⟩, -, hst⟩ := hB
  have dB := decide_eq_true b6
  by_cases c : bA b = 40
  · -- the oldest is taken first
    let F1 : zFd := zu (zcpyF F (B + 12) 1 (B + 12) 0 39) (B + 12) 39 none
    let F2 : zFd := zu F1 (B + 12) 39 (some (B + 17 + 10 * o 0))
    let o' : Nat → Nat := fun k => if k = 39 then o 0 else o (k + 1)
    have hF2 : ∀ x, x ≠ B + 12 → F2 x = F x := fun x hx => by
      show zu (zu (zcpyF F _ _ _ _ _) _ _ _) _ _ _ x = _
      rw [zu_row hx, zu_row hx]
      funext k
      unfold zcpyF
      rw [if_neg fun q => hx q.1]
    have hF1 : ∀ x, x ≠ B + 12 → F1 x = F x := fun x hx => by
      show zu (zcpyF F _ _ _ _ _) _ _ _ x = _
      rw [zu_row hx]
      funext k
      unfold zcpyF
      rw [if_neg fun q => hx q.1]
    have hO : zBO F2 B o' := by
      refine ⟨fun k hk => ?_, fun i j hi hj e => ?_⟩
      · by_cases e : k = 39
        · subst e
          refine ⟨by show (if 39 = 39 then o 0 else _) < 40; rw [if_pos rfl]; exact (ho.1 0 (by decide)).1, ?_⟩
          show zu F1 _ _ _ _ _ = some (B + 17 + 10 * (if 39 = 39 then o 0 else _))
          rw [zu_same, if_pos rfl]
        · refine ⟨by show (if k = 39 then _ else o (k + 1)) < 40; rw [if_neg e]; exact (ho.1 _ (by omega)).1, ?_⟩
          show zu (zu (zcpyF F _ _ _ _ _) _ _ _) _ _ _ _ _ = some (B + 17 + 10 * (if k = 39 then _ else o (k + 1)))
          rw [zu_off (by omega), zu_off (by omega), if_neg e]
          unfold zcpyF
          rw [if_pos (by omega), show 1 + (k - 0) = k + 1 by omega]
          exact (ho.1 _ (by omega)).2
      · have e' : (if i = 39 then o 0 else o (i + 1)) = (if j = 39 then o 0 else o (j + 1)) := e
        by_cases a1 : i = 39
        · rw [if_pos a1] at e'
          by_cases a2 : j = 39
          · omega
          · rw [if_neg a2] at e'
            have := ho.2 _ _ (by decide) (by omega) e'
            omega
        · rw [if_neg a1] at e'
          by_cases a2 : j = 39
          · rw [if_pos a2] at e'
            have := ho.2 _ _ (by omega) (by decide) e'
            omega
          · rw [if_neg a2] at e'
            have := ho.2 _ _ (by omega) (by omega) e'
            omega
    have hB2 : zBL K F2 B := ⟨b6, kB, by rw [hF2 B (by omega)]; exact ⟨g0, g1, g2, g3, g4, g5⟩, hS.cF (hF2 _ (by omega)), ⟨l1, by rw [hF2 _ (by omega)]; exact l2, l3⟩, hB0.2.2.2.2.2.1, fun j hj => (hst j hj).cF (hF2 _ (by omega))⟩
    let J : zId := zu (zu (zu (zu (zu I (B + 11) 0 (I (B + 11) 0 + 1)) (B + 11) 2 (nI 39)) (B + 11) 0 (I (B + 11) 0 + 1 + 1)) (B + 11) 2 (nI 40)) B 6 (nI 39)
    have hJ : ∀ x, x ≠ B → x ≠ B + 11 → J x = I x := fun x h1 h2 => by
      show zu (zu (zu (zu (zu I _ _ _) _ _ _) _ _ _) _ _ _) _ _ _ x = _
      rw [zu_row h1, zu_row h2, zu_row h2, zu_row h2, zu_row h2]
    have hJ6 : J B 6 = nI 39 := zu_same
    have hJB : ∀ k, k ≠ 6 → J B k = I B k := fun k hk => by
      show zu (zu (zu (zu (zu I _ _ _) _ _ _) _ _ _) _ _ _) _ _ _ B k = _
      rw [zu_off (by omega), zu_row (by omega), zu_row (by omega), zu_row (by omega), zu_row (by omega)]
    have hJl : J (B + 11) 2 = nI 40 := by
      show zu (zu (zu (zu (zu I _ _ _) _ _ _) _ _ _) _ _ _) _ _ _ (B + 11) 2 = _
      rw [zu_off (by omega), zu_same]
    have ho39 : o' 39 = o 0 := if_pos rfl
    refine ⟨F2, zu (zlk J (B + 17 + 10 * o' 39) (B + 1)) B 6 (nI 40), o', ?_, hF2, hO, ?_, fun x k h1 h2 h3 => ?_⟩
    · have hget := zBG hB2 hO hJl (show 39 < 40 by decide)
      have hlk := F_keep_like hB2 hO (J := J) (show 39 < 40 by decide)
      have hz : zlk J (B + 17 + 10 * o' 39) (B + 1) B 6 = nI 39 := by rw [zlk_off (by omega)]; exact hJ6
      have o0 := ho.1 0 (by decide)
      have v40 : I B 6 = 40 := by rw [v3, c]; rfl
      have hrem := F_rem_ok hB0 ho0 v1
      let I1 : zId := zu (zu I (B + 11) 0 (I (B + 11) 0 + 1)) (B + 11) 2 (nI 39)
      have hk0 := (hst _ o0.1).2.1
      have hadd := F_add_ok (n := n) (L := L) (I := I1) (F := F1) (lst := B + 11) (E := B + 12) (s := 39) (cap := 40) (x := B + 17 + 10 * o 0) (m := 5) (by omega) (by omega) l1 (by rw [hF1 _ (by omega)]; exact l2) l3 zu_same (by decide) (by decide) hk0 (Or.inl rfl)
      have eI1 : I1 (B + 11) 0 = I (B + 11) 0 + 1 := by
        show zu (zu I _ _ _) _ _ _ (B + 11) 0 = _
        rw [zu_off (by omega), zu_same]
      rw [eI1] at hadd
      have e39 : nI 40 - 1 = nI 39 := nI_pred 39
      have hB6 : zu (zu I1 (B + 11) 0 (I (B + 11) 0 + 1 + 1)) (B + 11) 2 (nI (39 + 1)) B 6 = nI 40 := by
        rw [zu_row (by omega), zu_row (by omega)]
        show zu (zu I _ _ _) _ _ _ B 6 = _
        rw [zu_row (by omega), zu_row (by omega)]
        exact v40
      have eJ : zu (zu (zu I1 (B + 11) 0 (I (B + 11) 0 + 1 + 1)) (B + 11) 2 (nI (39 + 1))) B 6 (nI 39) = J := rfl
      have eF2 : zu F1 (B + 12) 39 (some (B + 17 + 10 * o 0)) = F2 := rfl
      have eF1 : zu (zcpyF F (B + 12) 1 (B + 12) 0 39) (B + 12) 39 none = F1 := rfl
      have eI1' : zu (zu I (B + 11) 0 (I (B + 11) 0 + 1)) (B + 11) 2 (nI 39) = I1 := rfl
      have y1 : F1 B 1 = some (B + 11) := by rw [hF1 B (by omega)]; exact g1
      have y2 : F2 B 1 = some (B + 11) := by rw [hF2 B (by omega)]; exact g1
      have y3 : F2 B 0 = some (B + 1) := by rw [hF2 B (by omega)]; exact g0
      have hkA := (hst _ (hO.1 39 (by decide)).1).2.1
      rw [eF1, eI1'] at hrem
      unfold F_X5_keeps
      simp only [hK, jF, hI, hN, hL, zsI, zsF, zsFI]
      rw [zka_eq kB, dB, zg_true, zlet_e]
      simp only [v40, not_true_eq_false, ↓reduceIte, g1, zb1_e, ↓zka_eq l1, hrem, zb3_e, zlet_e, ↓zka_eq hk0, hadd, zc1_e, zn2, zpay_e, ↓zka_eq kB, hB6, e39, eJ, eF2, y2, y3, hJ6, hget, ↓zka_eq hkA, hlk, hz, nI_1]
    · have hb' : bKeep b = (bS b, (40, fun k => if k = 39 then bS b else bP b (k + 1)), bSp b, bR b) := by unfold bKeep; rw [if_pos c]
      rw [hb']
      refine zBV_keep (k := 39) hf hb (by decide) hO.2 ?_ hJl rfl (fun i hi => ?_) (show (if 39 = 39 then bS b else bP b (39 + 1)) = bS b from if_pos rfl) (by rw [hJB 7 (by decide)]; exact v6.1) (fun i hi => by rw [hJ _ (by omega) (by omega), hJ _ (by omega) (by omega), hJ _ (by omega) (by omega)]; exact v6.2 i hi) fun i hi => by rw [hJ _ (by omega) (by omega)]; exact v7 i hi
      · rw [zcv_row (I := I) fun x h1 h2 => hJ x (by omega) (by omega)]; exact v2
      · have e : o' i = o (i + 1) := if_neg (by omega)
        have h1 := (ho.1 (i + 1) (by omega)).1
        rw [e, zcv_row (I := I) fun x h1 h2 => hJ x (by omega) (by omega), v5 (i + 1) (by omega)]
        exact (if_neg (by omega)).symm
    · have := (ho.1 0 (by decide)).1
      by_cases e : x = B
      · subst e
        rw [zu_off (by omega), zlk_off (by omega)]
        exact hJB k (by omega)
      · rw [zu_row e, zlk_off (by omega), hJ x e h2]
  · have hk : bA b < 40 := by omega
    have o1 := (ho.1 _ hk).1
    have hne : (nI (bA b) = 40) ↔ bA b = 40 := nI_eq (b := 40) (by omega) (by decide)
    refine ⟨F, zu (zlk I (B + 17 + 10 * o (bA b)) (B + 1)) B 6 (nI (bA b + 1)), o, ?_, fun _ _ => rfl, ho, ?_, fun x k h1 h2 h3 => ?_⟩
    · have hget := zBG hB0 ho0 v1 hk
      have hlk := F_keep_like hB0 ho0 (J := I) hk
      have hz : zlk I (B + 17 + 10 * o (bA b)) (B + 1) B 6 = nI (bA b) := by rw [zlk_off (by omega)]; exact v3
      have hk0 := (hst _ o1).2.1
      unfold F_X5_keeps
      simp only [hK, jF, hI, hN, hL, zsI, zsF, zsFI]
      rw [zka_eq kB, dB, zg_true, zlet_e]
      simp only [v3, hne, c, not_false_eq_true, ↓reduceIte, g1, g0, zb1_e, zlet_e, ↓zka_eq l1, ↓zka_eq kB, hget, ↓zka_eq hk0, hlk, hz, nI_1]
    · have hb' : bKeep b = (bS b, (bA b + 1, fun k => if k = bA b then bS b else bP b k), bSp b, bR b) := by unfold bKeep; rw [if_neg c]
      rw [hb']
      refine zBV_keep (k := bA b) hf hb hk ho.2 v2 v1 rfl (fun i hi => ?_) (if_pos rfl) v6.1 v6.2 v7
      rw [v5 i hi]
      exact (if_neg (show ¬ i = bA b by omega)).symm
    · by_cases e : x = B
      · subst e
        rw [zu_off (by omega), zlk_off (by omega)]
      · rw [zu_row e, zlk_off (by omega)]
end L37
