/-! L51: both at once -/
/-- what is known of all stores between calls -/
def zGn (Ln : Nat) (nf : Nat → Bool) (xs : Nat → Int32) (n : Nat) (K : zKd) (F : zFd) (I : zId) : Prop := (∀ x, x < 600 → K x = zK0 Ln x ∧ F x = zF0 nf x ∧ I x = zI0 xs x) ∧ 1903 ≤ n ∧ (∀ x, n ≤ x → K x = none) ∧ K 1902 = some (67, 1) ∧ zMok K F = true
def zPX (P : zP) (X : zXd) : Prop := pInv P ∧ xInv P X ∧ zwd (pnf P) (xrv X) ∧ isD (pnf P) (xrv X) (xds X)
def zWI (Ln : Nat) (nf : Nat → Bool) (xs : Nat → Int32) (h : zSt) : Prop := ∃ (a N : Nat) (P : zP) (X : zXd) (b : zBk) (m : Bool × zBk) (t : zTp) (ft : Int32), zPX P X ∧ zGn Ln nf xs (hN h) (hK h) (jF h) (hI h) ∧ N ≤ hN h ∧ (∀ k, k < t.1 → rg (t.2 k) 0 255) ∧ zCW (hK h) (jF h) (hI h) a N P X b m t ft ∧ zMW (hI h) P X b m t ft
section L51
variable {K : zKd} {F F' : zFd} {I J : zId} {L : zLd} {n a N : Nat} {P : zP} {X : zXd} {b b' : zBk} {m : Bool × zBk} {t : zTp} {ft : Int32}
theorem zMW.off (hp : pInv P) (h : zMW I P X b m t ft) (e : ∀ x, 1860 ≤ x → x ≤ 1901 → J x = I x) : zMW J P X b m t ft := by
  have e' : ∀ x, (1860 ≤ x ∧ x ≤ 1901) → J x = I x := fun x hx => e x hx.1 hx.2
  obtain ⟨⟨q1, q2, q3, q4, ⟨q5, q5b⟩, q6⟩, ⟨h2, h3⟩, ⟨h4, h5⟩, h6⟩ := h
  have hQ : zMQ J P X := by
    obtain ⟨w1, w2, w3, w4, w5⟩ := q1
    exact ⟨w1.cg (e' _ (by decide)) (e' _ (by decide)) (e' _ (by decide)) (e' _ (by decide)), by rw [e' _ (by decide)]; exact w2, by rw [e' _ (by decide)]; exact w3, by rw [e' _ (by decide)]; exact w4, by rw [e' _ (by decide)]; exact w5⟩
  have r0 := e' 1860 (by decide)
  refine ⟨⟨hQ, ?_, by rw [r0]; exact q3, fun k hk => by rw [e' 1868 (by decide), e' 1883 (by decide)]; exact q4 k hk, ⟨by rw [r0]; exact q5, fun k hk => by rw [e' 1890 (by decide), e' 1891 (by decide), e' 1892 (by decide)]; exact q5b k hk⟩, fun i hi => by rw [e' _ (by decide)]; exact q6 i hi⟩, ⟨by rw [r0]; exact h2, fun hm => (h3 hm).cg hp.1 hp.2.1 (fun x p q => e x (by omega) (by omega)) (fun k hk => by rw [r0]) fun j hj => by rw [e' 1868 (by decide)]⟩, ⟨by rw [r0]; exact h4, fun k hk => by rw [e' 1874 (by decide)]; exact h5 k hk⟩, by rw [r0]; exact h6⟩
  rw [← q2]
  refine zmv2_cg fun x k hk => ?_
  rw [e x]
  · simp only [zmok, Bool.or_eq_true, Bool.and_eq_true, decide_eq_true_eq, beq_iff_eq] at hk
    omega
  · simp only [zmok, Bool.or_eq_true, Bool.and_eq_true, decide_eq_true_eq, beq_iff_eq] at hk
    omega
theorem zBV.cg {nf nb B : Nat} {o : Nat → Nat} (h : zBV nf nb I B o b) (ho : zBO F B o) (r : ∀ x, B ≤ x → x ≤ B + 416 → J x = I x) : zBV nf nb J B o b := by
  obtain ⟨v1, v2, ⟨v3, v4⟩, v5, ⟨v6, v6b⟩, v7⟩ := h
  refine ⟨by rw [r _ (by omega) (by omega)]; exact v1, by rw [zcv_row (I := I) fun x p q => r x (by omega) (by omega)]; exact v2, ⟨by rw [r _ (by omega) (by omega)]; exact v3, v4⟩, fun k hk => ?_, ⟨by rw [r _ (by omega) (by omega)]; exact v6, fun k hk => ?_⟩, fun j hj => by rw [r _ (by omega) (by omega)]; exact v7 j hj⟩
  · have := (ho.1 k (Nat.lt_of_lt_of_le hk v4)).1
    rw [zcv_row (I := I) fun x p q => r x (by omega) (by omega)]
    exact v5 k hk
  · rw [r _ (by omega) (by omega), r _ (by omega) (by omega), r _ (by omega) (by omega)]
    exact v6b k hk
theorem zCW.off (h : zCW K F I a N P X b m t ft) (e : ∀ x, (x < 1860 ∨ 1901 < x) → J x = I x) : zCW K F J a N P X b m t ft := by
  obtain ⟨⟨c1, c2, c3, ⟨o', c4, c5⟩, c6, c7⟩, h2, h3, ⟨o, h4, h5⟩, ⟨h6, h6b⟩, ⟨h7, h8, h9⟩, h10⟩ := h
  have hd := c1.2.2.2.2.2.2
  exact ⟨⟨c1.cg (fun x p q s => e x (by omega)) (fun x p => e x (by omega)), c2, c3, ⟨o', c4, c5.cg c4 fun x p q => e x (by omega)⟩, c6, c7⟩, h2, by rw [e _ (by decide)]; exact h3, ⟨o, h4, fun hm => (h5 hm).cg h4 fun x p q => e x (by omega)⟩, ⟨by rw [e _ (by decide)]; exact h6, h6b⟩, ⟨by rw [e _ (by decide)]; exact h7, h8, fun k hk => by rw [e _ (by decide)]; exact h9 k hk⟩, by rw [e _ (by decide)]; exact h10⟩
theorem zmf.off (e : zmf I J) : ∀ x, (x < 1860 ∨ 1901 < x) → J x = I x := fun x hx => e.row fun k => by
  simp only [zmsc, Bool.or_eq_false_iff, Bool.and_eq_false_iff, decide_eq_false_iff_not, beq_eq_false_iff_ne, ne_eq]
  omega
theorem zma.off (e : zma I J) : ∀ x, (x < 1860 ∨ 1901 < x) → J x = I x := fun x hx => e.row fun k => by
  simp only [zmac, Bool.or_eq_false_iff, Bool.and_eq_false_iff, decide_eq_false_iff_not, beq_eq_false_iff_ne, ne_eq]
  omega
theorem zcf.off (e : zcf a I J) (hd : a = 1001 ∨ 1903 ≤ a) : (∀ x, 1860 ≤ x → x ≤ 1901 → J x = I x) ∧ ∀ x, x < 600 → J x = I x :=
  ⟨fun x p q => e.row fun k => zcsc_no (by omega) (by omega) (by omega), fun x p => e.row fun k => zcsc_no (by omega) (by omega) (by omega)⟩
theorem zaf.off (e : zaf a I J) (hd : a = 1001 ∨ 1903 ≤ a) : (∀ x, 1860 ≤ x → x ≤ 1901 → J x = I x) ∧ ∀ x, x < 600 → J x = I x :=
  ⟨fun x p q => e x (by omega) (by omega), fun x p => e x (by omega) (by omega)⟩
theorem zCW.d (h : zCW K F I a N P X b m t ft) : a = 1001 ∨ 1903 ≤ a := by
  have := h.1.1.2.2.2.2.2.2
  omega
theorem zMok_cg (h : zMok K F = true) (e : F' 1860 = F 1860) : zMok K F' = true := by
  unfold zMok at h ⊢
  rw [e]
  exact h
theorem zGn.cg {Ln : Nat} {nf : Nat → Bool} {xs : Nat → Int32} (h : zGn Ln nf xs n K F I) (hF : ∀ x, x ≠ 1025 → F' x = F x) (hI : ∀ x, x < 600 → J x = I x) : zGn Ln nf xs n K F' J :=
  ⟨fun x hx => by rw [hF x (by omega), hI x hx]; exact h.1 x hx, h.2.1, h.2.2.1, h.2.2.2.1, zMok_cg h.2.2.2.2 (hF _ (by decide))⟩
theorem zWI_q {Ln : Nat} {nf : Nat → Bool} {xs : Nat → Int32} {L' : zLd} {J2 : zId} (hx : zPX P X) (hg : zGn Ln nf xs n K F I) (hN : N ≤ n) (ht : ∀ k, k < t.1 → rg (t.2 k) 0 255) (hc : zCW K F I a N P X b m t ft) (hm : zMW I P X b m t ft) (e1 : zcf a I J) (e2 : zmf J J2) (e3 : zmv2 (pnf P) (pnb P) J2 = zmv2 (pnf P) (pnb P) J) : zWI Ln nf xs (n, K, F, J2, L') := by
  obtain ⟨o1, o2⟩ := e1.off hc.d
  refine ⟨a, N, P, X, b, m, t, ft, hx, hg.cg (fun _ _ => rfl) (fun x hx => (e2.off x (by omega)).trans (o2 x hx)), hN, ht, (hc.q e1).off e2.off, (hm.off hx.1 o1).q hx.1 e2 e3⟩
theorem zWI_a {Ln : Nat} {nf : Nat → Bool} {xs : Nat → Int32} {L' : zLd} {J2 : zId} (hx : zPX P X) (hg : zGn Ln nf xs n K F I) (hN : N ≤ n) (ht : ∀ k, k < t.1 → rg (t.2 k) 0 255) (hc : zCW K F I a N P X b m t ft) (hm : zMW I P X b m t ft) (g1 : zCB K F' J a N P X b') (g2 : ∀ x, x ≠ 1025 → F' x = F x) (e1 : zaf a I J) (g3 : zMB J2 P X b') (e2 : zma J J2) : zWI Ln nf xs (n, K, F', J2, L') := by
  obtain ⟨o1, o2⟩ := e1.off hc.d
  refine ⟨a, N, P, X, b', m, t, ft, hx, hg.cg g2 (fun x hx => (e2.off x (by omega)).trans (o2 x hx)), hN, ht, (hc.act g1 g2 e1).off e2.off, (hm.off hx.1 o1).act hx.1 g3 e2⟩
theorem lg_cmp_0 (x : Int64) : lg_cmp x x = 0 := by
  unfold lg_cmp
  rw [if_neg, if_pos rfl]
  exact Int64.lt_irrefl
end L51
