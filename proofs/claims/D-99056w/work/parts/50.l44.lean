/-! L44: the whole of the component: book, image, tape, fault -/
def bOk (P : zP) (b : zBk) : Prop := (bA b ≤ 40 ∧ sInv P (bS b) ∧ ∀ k, k < bA b → sInv P (bP b k)) ∧ spInv P (bSp b)
abbrev zTp : Type := Nat × (Nat → Int32)
def zCW (K : zKd) (F : zFd) (I : zId) (a N : Nat) (P : zP) (X : zXd) (b : zBk) (m : Bool × zBk) (t : zTp) (ft : Int32) : Prop :=
  zCB K F I a N P X b ∧ zBL K F 1430 ∧ I 1441 2 = nI 40 ∧ (∃ o, zBO F 1430 o ∧ (m.1 = true → zBV (pnf P) (pnb P) I 1430 o m.2)) ∧ (I 1000 5 = (if m.1 = true then 1 else 0) ∧ (m.1 = true → bOk P m.2)) ∧ (I 1000 7 = nI t.1 ∧ t.1 ≤ 700 ∧ ∀ k, k < t.1 → I 1857 k = (t.2 k).toInt8.toInt32) ∧ I 1000 8 = ft
section L44
variable {K : zKd} {F F' : zFd} {I J : zId} {L : zLd} {n a N : Nat} {P : zP} {X : zXd} {b b' : zBk} {m : Bool × zBk} {t : zTp} {ft : Int32}
theorem zCB.ok (h : zCB K F I a N P X b) : bOk P b := h.2.2.2.2
theorem zCB.cf (h : zCB K F I a N P X b) (e : zcf a I J) : zCB K F J a N P X b := by
  obtain ⟨h1, h2, h3, ⟨o, h4, h5⟩, h6, h9⟩ := h
  have hd := h1.2.2.2.2.2.2
  refine ⟨h1.cf e, h2, h3, ⟨o, h4, ?_⟩, h6, h9⟩
  have r : ∀ x, 1013 ≤ x → x ≤ 1429 → J x = I x := fun x p q => e.row fun k => zcsc_no (by omega) (by omega) (by omega)
  obtain ⟨v1, v2, ⟨v3, v4⟩, v5, ⟨v6, v6b⟩, v7⟩ := h5
  refine ⟨by rw [r _ (by decide) (by decide)]; exact v1, by rw [zcv_row (I := I) fun x p q => r x (by omega) (by omega)]; exact v2, ⟨by rw [r _ (by decide) (by decide)]; exact v3, v4⟩, fun k hk => ?_, ⟨by rw [r _ (by decide) (by decide)]; exact v6, fun k hk => ?_⟩, fun j hj => by rw [r _ (by decide) (by decide)]; exact v7 j hj⟩
  · have := (h4.1 k (Nat.lt_of_lt_of_le hk v4)).1
    rw [zcv_row (I := I) fun x p q => r x (by omega) (by omega)]
    exact v5 k hk
  · rw [r _ (by decide) (by decide), r _ (by decide) (by decide), r _ (by decide) (by decide)]
    exact v6b k hk
theorem zBV.im {nf nb : Nat} {o : Nat → Nat} (h : zBV nf nb I 1430 o b) (ho : zBO F 1430 o) (r : ∀ x, 1430 ≤ x → x ≤ 1846 → J x = I x) : zBV nf nb J 1430 o b := by
  obtain ⟨v1, v2, ⟨v3, v4⟩, v5, ⟨v6, v6b⟩, v7⟩ := h
  refine ⟨by rw [r _ (by decide) (by decide)]; exact v1, by rw [zcv_row (I := I) fun x p q => r x (by omega) (by omega)]; exact v2, ⟨by rw [r _ (by decide) (by decide)]; exact v3, v4⟩, fun k hk => ?_, ⟨by rw [r _ (by decide) (by decide)]; exact v6, fun k hk => ?_⟩, fun j hj => by rw [r _ (by decide) (by decide)]; exact v7 j hj⟩
  · have := (ho.1 k (Nat.lt_of_lt_of_le hk v4)).1
    rw [zcv_row (I := I) fun x p q => r x (by omega) (by omega)]
    exact v5 k hk
  · rw [r _ (by decide) (by decide), r _ (by decide) (by decide), r _ (by decide) (by decide)]
    exact v6b k hk
/-- over a query -/
theorem zCW.q (h : zCW K F I a N P X b m t ft) (e : zcf a I J) : zCW K F J a N P X b m t ft := by
  obtain ⟨h1, h2, h3, ⟨o, h4, h5⟩, ⟨h6, h6b⟩, ⟨h7, h8, h9⟩, h10⟩ := h
  have hd := h1.1.2.2.2.2.2.2
  have r : ∀ x, 1430 ≤ x → x ≤ 1846 → J x = I x := fun x p q => e.row fun k => zcsc_no (by omega) (by omega) (by omega)
  have r0 : ∀ k, k ≠ 11 → J 1000 k = I 1000 k := fun k hk => e 1000 k (zcsc_no (by omega) (by omega) (by omega))
  have r5 : J 1857 = I 1857 := e.row fun k => zcsc_57 (by omega)
  refine ⟨h1.cf e, h2, by rw [r _ (by decide) (by decide)]; exact h3, ⟨o, h4, fun hm => (h5 hm).im h4 r⟩, ⟨by rw [r0 _ (by decide)]; exact h6, h6b⟩, ⟨by rw [r0 _ (by decide)]; exact h7, h8, fun k hk => by rw [r5]; exact h9 k hk⟩, by rw [r0 _ (by decide)]; exact h10⟩
/-- over an act -/
theorem zCW.act (h : zCW K F I a N P X b m t ft) (h' : zCB K F' J a N P X b') (hF : ∀ x, x ≠ 1025 → F' x = F x) (e : zaf a I J) : zCW K F' J a N P X b' m t ft := by
  obtain ⟨h1, h2, h3, ⟨o, h4, h5⟩, ⟨h6, h6b⟩, ⟨h7, h8, h9⟩, h10⟩ := h
  have hd := h1.1.2.2.2.2.2.2
  have r : ∀ x, 1430 ≤ x → x ≤ 1857 → J x = I x := fun x p q => e x (by omega) (by omega)
  have r0 : J 1000 = I 1000 := e 1000 (by omega) (by omega)
  refine ⟨h', h2.cF (Or.inr rfl) fun x p _ => hF x p, by rw [r _ (by decide) (by decide)]; exact h3, ⟨o, ⟨fun k hk => by rw [hF _ (by decide)]; exact h4.1 k hk, h4.2⟩, fun hm => (h5 hm).im h4 fun x p q => r x p (by omega)⟩, ⟨by rw [r0]; exact h6, h6b⟩, ⟨by rw [r0]; exact h7, h8, fun k hk => by rw [r 1857 (by decide) (by decide)]; exact h9 k hk⟩, by rw [r0]; exact h10⟩
theorem F_fault_ok (h : zCW K F I a N P X b m t ft) : F_X1_fault K F 1000 I = some ft := by
  have k0 := h.1.1.1
  have h10 := h.2.2.2.2.2.2
  simp only [F_X1_fault, ↓zka_eq k0, d1000, zg_true, h10]
theorem F_image_ok (h : zCW K F I a N P X b m t ft) (hp : pInv P) : ∃ J, F_X1_image K F 1000 I = some J ∧ zCW K F J a N P X b (true, b) t ft ∧ ∀ x, (x < 600 ∨ 1860 ≤ x) → J x = I x := by
  obtain ⟨h1, h2, h3, ⟨o, h4, h5⟩, ⟨h6, h6b⟩, ⟨h7, h8, h9⟩, h10⟩ := h
  have hd := h1.1.2.2.2.2.2.2
  obtain ⟨k0, ⟨f0, f1, f2, f3, -⟩, -, -, -⟩ := h1.1
  obtain ⟨c1, c2, c3, ⟨o', c4, c5⟩, c6, c7⟩ := id h1
  obtain ⟨J, g1, g2, g3⟩ := F5_like_ok hp.1 hp.2.1 h2 c3 h4 c4 (Or.inr (by decide)) c5 h3 c7.1
  have r : ∀ x, x ≠ 1000 → (x < 1430 ∨ 1846 < x) → zu J 1000 5 1 x = I x := fun x p q => by rw [zu_row p]; exact g3 x (by omega)
  have r0 : ∀ k, k ≠ 5 → zu J 1000 5 1 1000 k = I 1000 k := fun k hk => by rw [zu_off (by omega)]; exact congrFun (g3 1000 (by omega)) k
  have hz : zBV (pnf P) (pnb P) (zu J 1000 5 1) 1430 o b := g2.im h4 fun x p q => zu_row (by omega)
  refine ⟨zu J 1000 5 1, ?_, ⟨?_, h2, hz.1, ⟨o, h4, fun _ => hz⟩, ⟨zu_same, fun _ => h1.ok⟩, ⟨by rw [r0 _ (by decide)]; exact h7, h8, fun k hk => by rw [r _ (by decide) (by decide)]; exact h9 k hk⟩, by rw [r0 _ (by decide)]; exact h10⟩, fun x hx => r x (by omega) (by omega)⟩
  · simp only [F_X1_image, ↓reduceIte, zg_true, zb1_e, zb2_e, zb3_e, zsum, zlet_e, nI_1, ↓zka_eq k0, d1000, f1, f2, ↓zka_eq h2.2.1, g1]
  · have hc : ∀ x, 1013 ≤ x → x ≤ 1429 → zu J 1000 5 1 x = I x := fun x p q => r x (by omega) (by omega)
    refine ⟨c1.cg (fun x p q s => r x (by omega) (by omega)) (fun x p => r x (by omega) (by omega)), c2, c3, ⟨o', c4, ?_⟩, c6, c7⟩
    have := c5.st (J := zu J 1000 5 1) (fun x p q s => hc x (by omega) (by omega)) fun k hk => (c4.1 k (Nat.lt_of_lt_of_le hk c6.1)).1
    rw [zcv_row (I := I) fun x p q => hc x (by omega) (by omega), h1.now] at this
    exact this
theorem F_restore_ok (h : zCW K F I a N P X b m t ft) (hp : pInv P) : ∃ J, F_X1_restore K F 1000 I = some (if m.1 = true then 1 else 0, J) ∧ zCW K F J a N P X (if m.1 = true then m.2 else b) m t ft ∧ ∀ x, (x < 600 ∨ 1860 ≤ x) → J x = I x := by
  have h0 := h
  obtain ⟨h1, h2, h3, ⟨o, h4, h5⟩, ⟨h6, h6b⟩, ⟨h7, h8, h9⟩, h10⟩ := h
  have hd := h1.1.2.2.2.2.2.2
  obtain ⟨k0, ⟨f0, f1, f2, f3, -⟩, -, -, -⟩ := h1.1
  obtain ⟨c1, c2, c3, ⟨o', c4, c5⟩, c6, c7⟩ := id h1
  by_cases hm : m.1 = true
  · rw [if_pos hm] at h6
    rw [if_pos hm, if_pos hm]
    have hV := h5 hm
    have hO := h6b hm
    obtain ⟨J, g1, g2, g3⟩ := F5_like_ok hp.1 hp.2.1 c3 h2 c4 h4 (Or.inl (by decide)) hV c5.1 hO.2.1
    have r : ∀ x, (x < 1013 ∨ 1429 < x) → J x = I x := fun x q => g3 x (by omega)
    refine ⟨J, ?_, ⟨⟨c1.cg (fun x p q s => r x (by omega)) (fun x p => r x (by omega)), c2, c3, ⟨o', c4, g2⟩, hO.1, hO.2⟩, h2, by rw [r _ (by decide)]; exact h3, ⟨o, h4, fun _ => hV.im h4 fun x p q => r x (by omega)⟩, ⟨by rw [r _ (by decide), if_pos hm]; exact h6, h6b⟩, ⟨by rw [r _ (by decide)]; exact h7, h8, fun k hk => by rw [r _ (by decide)]; exact h9 k hk⟩, by rw [r _ (by decide)]; exact h10⟩, fun x hx => r x (by omega)⟩
    have n1 : ¬ (1 : Int32) = 0 := by decide
    simp only [F_X1_restore, ↓reduceIte, zg_true, zb1_e, zb2_e, zb3_e, zsum, zlet_e, nI_1, ↓zka_eq k0, d1000, f1, f2, h6, n1, not_false_eq_true, ↓zka_eq c3.2.1, g1]
  · rw [if_neg hm] at h6
    rw [if_neg hm, if_neg hm]
    refine ⟨I, ?_, h0, fun _ _ => rfl⟩
    simp only [F_X1_restore, ↓reduceIte, zg_true, zb1_e, zb2_e, zb3_e, zsum, zlet_e, nI_1, ↓zka_eq k0, d1000, h6, not_true_eq_false]
end L44
