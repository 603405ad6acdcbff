/-! L38: the component's acts -/
/-- where the lists' tables of a land aren't -/
def zEn (F : zFd) (a : Nat) : Prop := ∀ i E, i < 6 → F (a + i) 1 = some E → E ≠ 1025 ∧ E ≠ 1442
def zCB (K : zKd) (F : zFd) (I : zId) (a N : Nat) (P : zP) (X : zXd) (b : zBk) : Prop := zCQ K F I a N P X ∧ zEn F a ∧ zBL K F 1013 ∧ (∃ o, zBO F 1013 o ∧ zBV (pnf P) (pnb P) I 1013 o b) ∧ (bA b ≤ 40 ∧ sInv P (bS b) ∧ ∀ k, k < bA b → sInv P (bP b k)) ∧ spInv P (bSp b)
def zaf (a : Nat) (I I' : zId) : Prop := ∀ x, (x < 1013 ∨ 1429 < x) → x ≠ a + 11 → I' x = I x
theorem zaf.tr {a : Nat} {I J L : zId} (h1 : zaf a I J) (h2 : zaf a J L) : zaf a I L := fun x p q => (h2 x p q).trans (h1 x p q)
theorem zaf.rf {a : Nat} {I : zId} : zaf a I I := fun _ _ _ => rfl
theorem zAL.cF {K : zKd} {F F' : zFd} {I : zId} {lst E n : Nat} (h : zAL K F I lst E n) (e : F' lst = F lst) : zAL K F' I lst E n := ⟨h.1, h.2.1, by rw [e]; exact h.2.2.1, h.2.2.2⟩
theorem zLL.cF {K : zKd} {F F' : zFd} {I : zId} {a N : Nat} {P : zP} (h : zLL K F I a N P) (hE : zEn F a) (hd : (a = 1001 ∧ N = 1013) ∨ 1903 ≤ a) (e : ∀ x, x ≠ 1025 → x ≠ 1442 → F' x = F x) : zLL K F' I a N P := by
  obtain ⟨h1, h2, h3, h4, h5, h6, ⟨E, fo, g1, g2, g3⟩, ⟨E2, g4, g5⟩, ⟨h8, h8b, h8c, h8d⟩, h9, h10, h11⟩ := h
  have ea : ∀ i, i < 12 → F' (a + i) = F (a + i) := fun i hi => e _ (by omega) (by omega)
  have ea0 := ea 0 (by decide)
  rw [Nat.add_zero] at ea0
  have eE := hE 1 E (by decide) g2.2.2.1
  refine ⟨h1, h2, h3, h4, h5, h6, ⟨E, fo, by rw [ea0]; exact g1, g2.cF (ea 1 (by decide)), fun f hf => ?_⟩, ⟨E2, by rw [ea0]; exact g4, g5.cF (ea 3 (by decide))⟩, ⟨by rw [ea0]; exact h8, h8b, by rw [ea 9 (by decide)]; exact h8c, h8d⟩, h9, by rw [ea0]; exact h10, fun hh hp => ?_⟩
  · obtain ⟨q1, q2⟩ := g3 f hf
    exact ⟨by rw [e E eE.1 eE.2]; exact q1, q2⟩
  · obtain ⟨e0, q1, q2⟩ := h11 hh hp
    refine ⟨e0, by rw [ea0]; exact q1, fun K' F'' J hKF hJ => q2 K' F'' J (fun x hx => ?_) hJ⟩
    obtain ⟨p1, p2⟩ := hKF x hx
    exact ⟨p1, p2.trans (e x (by omega) (by omega))⟩
theorem zCQ.cF {K : zKd} {F F' : zFd} {I : zId} {a N : Nat} {P : zP} {X : zXd} (h : zCQ K F I a N P X) (hE : zEn F a) (e : ∀ x, x ≠ 1025 → x ≠ 1442 → F' x = F x) : zCQ K F' I a N P X := by
  obtain ⟨h1, h2, h3, ⟨h4, h5⟩, h6, ⟨q1, ⟨E, q2, q3, q4⟩, q5, ⟨q6, q7, q8, q9⟩, q10⟩, h8⟩ := h
  have ea : ∀ i, i < 12 → F' (a + i) = F (a + i) := fun i hi => e _ (by omega) (by omega)
  have ea0 := ea 0 (by decide)
  rw [Nat.add_zero] at ea0
  have eE := hE 5 E (by decide) q3.2.2.1
  exact ⟨h1, by rw [e 1000 (by decide) (by decide)]; exact h2, h3, ⟨h4.cF (e _ (by decide) (by decide)), h5.cF (e _ (by decide) (by decide))⟩, h6.cF hE h8 e, ⟨q1, ⟨E, by rw [ea0]; exact q2, q3.cF (ea 5 (by decide)), fun k hk => by rw [e E eE.1 eE.2]; exact q4 k hk⟩, q5, ⟨by rw [ea0]; exact q6, q7, by rw [ea0]; exact q8, q9⟩, q10⟩, h8⟩
theorem zEn.cF {F F' : zFd} {a N : Nat} (h : zEn F a) (hd : (a = 1001 ∧ N = 1013) ∨ 1903 ≤ a) (e : ∀ x, x ≠ 1025 → x ≠ 1442 → F' x = F x) : zEn F' a := fun i E hi hq => by
  rw [e _ (by omega) (by omega)] at hq
  exact h i E hi hq
theorem zBL.cF {K : zKd} {F F' : zFd} {B : Nat} (h : zBL K F B) (hB : B = 1013 ∨ B = 1430) (e : ∀ x, x ≠ 1025 → x ≠ 1442 → F' x = F x) : zBL K F' B := by
  obtain ⟨h1, h2, h3, h4, ⟨h5, h6, h7⟩, h8, h9⟩ := h
  exact ⟨h1, h2, by rw [e B (by omega) (by omega)]; exact h3, h4.cF (e _ (by omega) (by omega)), ⟨h5, by rw [e _ (by omega) (by omega)]; exact h6, h7⟩, h8, fun j hj => (h9 j hj).cF (e _ (by omega) (by omega))⟩
theorem zCQ.af {K : zKd} {F : zFd} {I I' : zId} {a N : Nat} {P : zP} {X : zXd} (h : zCQ K F I a N P X) (e : zaf a I I') : zCQ K F I' a N P X := by
  have hd := h.2.2.2.2.2.2
  exact h.cg (fun x h1 h2 h3 => e x (by omega) h3) (fun x hx => e x (by omega) (by omega))
theorem zBV.st {nf nb : Nat} {I J : zId} {B : Nat} {o : Nat → Nat} {b : zBk} (h : zBV nf nb I B o b) (e : ∀ x, B ≤ x → (x < B + 1 ∨ B + 10 < x) → x ≤ B + 416 → J x = I x) (ho : ∀ k, k < bA b → o k < 40) : zBV nf nb J B o (zcv nf nb J (B + 1), b.2) := by
  obtain ⟨v1, v2, ⟨v3, v4⟩, v5, ⟨v6, v6b⟩, v7⟩ := h
  refine ⟨by rw [e _ (by omega) (by omega) (by omega)]; exact v1, rfl, ⟨by rw [e B (by omega) (by omega) (by omega)]; exact v3, v4⟩, fun k hk => ?_, ⟨by rw [e B (by omega) (by omega) (by omega)]; exact v6, fun k hk => ?_⟩, fun i hi => by rw [e _ (by omega) (by omega) (by omega)]; exact v7 i hi⟩
  · have hk4 := ho k hk
    rw [← v5 k hk]
    exact zcv_row fun x h1 h2 => e x (by omega) (by omega) (by omega)
  · rw [e _ (by omega) (by omega) (by omega), e _ (by omega) (by omega) (by omega), e _ (by omega) (by omega) (by omega)]
    exact v6b k hk
/-- costs of an answer -/
def qcc (q : Int32 ⊕ Nat) : Nat × Nat := match q with
  | .inl _ => (0, 0)
  | .inr _ => (1, 6)
def bRef (b : zBk) (i : Nat) : zBk := (bS b, b.2.1, bSp b, fun k => if k = i then bR b k + 1 else bR b k)
def bSt (b : zBk) (S : zS) : zBk := (S, b.2)
section L38
variable {K : zKd} {F : zFd} {I : zId} {L : zLd} {n a N : Nat} {P : zP} {X : zXd} {b : zBk}
theorem zCB.now (h : zCB K F I a N P X b) : zcv (pnf P) (pnb P) I 1014 = bS b := by
  obtain ⟨-, -, -, ⟨o, -, v⟩, -⟩ := h
  exact v.2.1
theorem zCB.si (h : zCB K F I a N P X b) : sInv P (bS b) := h.2.2.2.2.1.2.1
/-- the state goes on -/
theorem zCB.st {J : zId} (h : zCB K F I a N P X b) (e : zfr 1014 (a + 11) I J) {S : zS} (hS : zcv (pnf P) (pnb P) J 1014 = S) (hi : sInv P S) : zCB K F J a N P X (bSt b S) ∧ zaf a I J := by
  obtain ⟨h1, h2, h3, ⟨o, h4, h5⟩, ⟨h6, h7, h8⟩, h9⟩ := h
  have hd := h1.2.2.2.2.2.2
  have haf : zaf a I J := fun x p q => e x (by omega) q
  refine ⟨⟨h1.af haf, h2, h3, ⟨o, h4, ?_⟩, ⟨h6, hi, h8⟩, h9⟩, haf⟩
  have := h5.st (J := J) (fun x p q r => e x (by omega) (by omega)) fun k hk => (h4.1 k (Nat.lt_of_lt_of_le hk h6)).1
  rw [hS] at this
  exact this
theorem F_refuse_ok (h : zCB K F I a N P X b) {i : Nat} (hi : i < 3) : F_X1_refuses K F 1000 (nI i) I = some (-1, zu I 1029 i (I 1029 i + 1)) ∧ zCB K F (zu I 1029 i (I 1029 i + 1)) a N P X (bRef b i) ∧ zaf a I (zu I 1029 i (I 1029 i + 1)) := by
  obtain ⟨h1, h2, h3, ⟨o, h4, h5⟩, h6, h9⟩ := h
  have hd := h1.2.2.2.2.2.2
  have haf : zaf a I (zu I 1029 i (I 1029 i + 1)) := fun x p q => zu_row (by omega)
  refine ⟨?_, ⟨h1.af haf, h2, h3, ⟨o, h4, ?_⟩, h6, h9⟩, haf⟩
  · obtain ⟨k0, ⟨f0, f1, -⟩, -⟩ := h1
    obtain ⟨b6, kB, ⟨-, -, -, -, -, g5⟩, -, -, ⟨-, -, -, k16⟩, -⟩ := h3
    simp only [F_X1_refuses, ↓zka_eq k0, d1000, f1, ↓reduceIte, zg_true, zb1_e, zb2_e, zb3_e, zsum, zlet_e, nI_1, ↓zka_eq kB, g5, ↓zka_eq k16, zin_n hi, nI_c (show i < 2147483648 by omega), show decide (600 ≤ 1013) = true from rfl, show decide (600 ≤ 1013 + 16) = true from rfl]
  · obtain ⟨v1, v2, ⟨v3, v4⟩, v5, ⟨v6, v6b⟩, v7⟩ := h5
    have hr : ∀ x, x ≠ 1029 → zu I 1029 i (I 1029 i + 1) x = I x := fun x hx => zu_row hx
    refine ⟨by rw [hr _ (by decide)]; exact v1, by rw [zcvo (by omega)]; exact v2, ⟨by rw [hr _ (by decide)]; exact v3, v4⟩, fun k hk => by rw [zcvo (by omega)]; exact v5 k hk, ⟨by rw [hr _ (by decide)]; exact v6, fun k hk => by rw [hr _ (by decide), hr _ (by decide), hr _ (by decide)]; exact v6b k hk⟩, fun j hj => ?_⟩
    show zu I 1029 i (I 1029 i + 1) 1029 j = if j = i then bR b j + 1 else bR b j
    by_cases e : j = i
    · subst e
      rw [zu_same, if_pos rfl, ← v7 j hj]
    · rw [zu_off (by omega), if_neg e]
      exact v7 j hj
theorem bKeep_inv (h1 : bA b ≤ 40) (h2 : sInv P (bS b)) (h3 : ∀ k, k < bA b → sInv P (bP b k)) : bA (bKeep b) ≤ 40 ∧ sInv P (bS (bKeep b)) ∧ ∀ k, k < bA (bKeep b) → sInv P (bP (bKeep b) k) := by
  unfold bKeep
  by_cases c : bA b = 40
  · rw [if_pos c]
    refine ⟨Nat.le_refl _, h2, fun k hk => ?_⟩
    show sInv P (if k = 39 then bS b else bP b (k + 1))
    have hk' : k < 40 := hk
    split
    · exact h2
    · exact h3 _ (by omega)
  · rw [if_neg c]
    refine ⟨(show bA b + 1 ≤ 40 by omega), h2, fun k hk => ?_⟩
    show sInv P (if k = bA b then bS b else bP b k)
    have hk' : k < bA b + 1 := hk
    split
    · exact h2
    · exact h3 _ (by omega)
theorem F_does_ok (h : zCB K F I a N P X b) (hp : pInv P) {v : Int32} (hv : v = 0 ∨ v = 1) : ∃ F' I', F_X1_does 1000 v (n, K, F, I, L) = some ((0, 0), (v, (n, K, F', I', L))) ∧ zCB K F' I' a N P X (if v = 0 then bRef b 1 else bKeep b) ∧ (∀ x, x ≠ 1025 → F' x = F x) ∧ zaf a I I' := by
  rcases hv with rfl | rfl
  · obtain ⟨g1, g2, g3⟩ := F_refuse_ok h (i := 1) (by decide)
    refine ⟨F, _, ?_, by rw [if_pos rfl]; exact g2, fun _ _ => rfl, g3⟩
    have k0 := h.1.1
    unfold F_X1_does
    rw [if_pos rfl]
    simp only [hK, jF, hI, hN, hL, zsFI, ↓zka_eq k0]
    rw [show (1 : Int32) = nI 1 from rfl, g1]
    rfl
  · have k0 := h.1.1
    have f1 := h.1.2.1.2.1
    obtain ⟨h1, h2, h3, ⟨o, h4, h5⟩, ⟨h6, h7, h8⟩, h9⟩ := h
    obtain ⟨F', I', o', g1, g2, g3, g4, g5⟩ := F_keeps_ok (n := n) (L := L) hp.1 hp.2.1 h3 h4 h5
    have hd := h1.2.2.2.2.2.2
    have haf : zaf a I I' := fun x p q => by
      funext k
      exact g5 x k (by omega) (by omega) (by omega)
    have g2' : ∀ x, x ≠ 1025 → x ≠ 1442 → F' x = F x := fun x p _ => g2 x p
    refine ⟨F', I', ?_, ?_, fun x p => g2 x p, haf⟩
    · unfold F_X1_does
      rw [if_neg (by decide)]
      simp only [hK, jF, zg_true, zb1_e, zc1_e, ↓zka_eq k0, d1000, f1, ↓zka_eq h3.2.1]
      rw [g1]
      rfl
    · rw [if_neg (by decide)]
      have hb := bKeep_inv h6 h7 h8
      exact ⟨(h1.af haf).cF h2 g2', h2.cF hd g2', h3.cF (Or.inl rfl) g2', ⟨o', g3, g4⟩, hb, h9⟩
end L38
