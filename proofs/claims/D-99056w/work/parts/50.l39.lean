/-! L39: acts: what they do; the component's -/
def qa (n : Nat) (x : Int32) (b : zBk) (f : Nat → (Int32 ⊕ Nat) × zBk) : (Int32 ⊕ Nat) × zBk := if x < 0 ∨ nI n ≤ x then (.inr 1, b) else f x.toNatClampNeg
theorem qa_ok {n k : Nat} {b : zBk} {f : Nat → (Int32 ⊕ Nat) × zBk} (h : k < n) (hn : n < 1000) : qa n (nI k) b f = f k := by
  unfold qa
  rw [if_neg, nI_c (by omega)]
  rintro (q | q)
  · exact nI_pos (show k < 2 ^ 31 by omega) q
  · exact nI_ge h (show n < 2 ^ 31 by omega) q
theorem qa_no {n : Nat} {x : Int32} {b : zBk} {f : Nat → (Int32 ⊕ Nat) × zBk} (h : x < 0 ∨ nI n ≤ x) : qa n x b f = (.inr 1, b) := if_pos h
/-- refused, or kept and set -/
def q_set (b : zBk) (r j : Nat) (c v w : Int32) : (Int32 ⊕ Nat) × zBk := if c = 0 then (.inl (-1), bRef b 1) else (.inl w, bSt (bKeep b) (zu (bS b) r j v))
def q_years (P : zP) (b : zBk) (x : Int32) : Int32 × zBk := if zib x 1 30 = 0 ∨ 999 < bS b 9 0 + x then (-1, bRef b 1) else (sp_it P (bS b) x.toNatClampNeg 9 0, bSt (bKeep b) (sp_it P (bS b) x.toNatClampNeg))
def q_move (P : zP) (X : zXd) (b : zBk) (x y : Int32) : (Int32 ⊕ Nat) × zBk := qa (pnb P) x b fun k => qa (pnf P) y b fun f => q_set b 4 k (if xrv X (sp_f (bS b) k) f ≤ 0 then 0 else 1) (nI f) (bS b 4 k)
def q_bows (P : zP) (b : zBk) (x y : Int32) : (Int32 ⊕ Nat) × zBk := qa (pnb P) x b fun k => q_set b 5 k (zib y 0 30) y (bS b 5 k)
def q_rest (P : zP) (b : zBk) (x y : Int32) : (Int32 ⊕ Nat) × zBk := qa (pnf P) x b fun f => q_set b 2 f (zib y 0 50) y (bS b 2 f)
def q_dye (P : zP) (b : zBk) (x y : Int32) : (Int32 ⊕ Nat) × zBk := qa (pnb P) x b fun k => q_set b 6 k (zib y 1 99) (zmin 9999 (bS b 6 k + y)) (zmin 9999 (bS b 6 k + y))
def q_forgive (P : zP) (b : zBk) (x : Int32) : (Int32 ⊕ Nat) × zBk := qa (pnb P) x b fun k => q_set b 7 k (if bS b 7 k ≤ 0 then 0 else 1) 0 (bS b 7 k)
def q_undo (b : zBk) : Int32 × zBk := if bA b = 0 then (-1, b) else (nI (bA b - 1), (bP b (bA b - 1), (bA b - 1, bP b), bSp b, bR b))
def q_spy (P : zP) (b : zBk) (x y w : Int32) : (Int32 ⊕ Nat) × zBk := qa (pnb P) x b fun k => if (bSp b).1 = 8 ∨ zib y 0 20 = 0 ∨ zib w 0 9999 = 0 then (.inl (-1), bRef b 2) else (.inl (nI ((bSp b).1 + 1)), (bS b, b.2.1, ((bSp b).1 + 1, zu1 (bSp b).2.1 (bSp b).1 k, zu1 (bSp b).2.2.1 (bSp b).1 y, zu1 (bSp b).2.2.2 (bSp b).1 w), bR b))
def q_forget (b : zBk) : zBk := (bS b, b.2.1, (0, (bSp b).2), bR b)
theorem zib_01 (x lo hi : Int32) : zib x lo hi = 0 ∨ zib x lo hi = 1 := by
  unfold zib
  split
  · exact Or.inl rfl
  · split
    · exact Or.inl rfl
    · exact Or.inr rfl
theorem zib_rg {x lo hi : Int32} (h : ¬ zib x lo hi = 0) : rg x lo.toInt hi.toInt := by
  unfold zib at h
  by_cases c : x < lo
  · rw [if_pos c] at h
    exact absurd rfl h
  · rw [if_neg c] at h
    by_cases c2 : hi < x
    · rw [if_pos c2] at h
      exact absurd rfl h
    · have h1 := mt iL.mpr c
      have h2 := mt iL.mpr c2
      exact ⟨by omega, by omega⟩
theorem sInv_rest {P : zP} {S : zS} (h : sInv P S) {f : Nat} {v : Int32} (hv : rg v 0 50) : sInv P (zu S 2 f v) := by
  refine ⟨fun b' hb' => ?_, fun f' hf' => ?_⟩
  · have z : ∀ r, 2 < r → zu S 2 f v r b' = S r b' := fun r hr => zu_off (by omega)
    rw [z 3 (by decide), z 4 (by decide), z 5 (by decide), z 6 (by decide), z 7 (by decide)]
    exact h.1 b' hb'
  · have z : ∀ r, r < 2 → zu S 2 f v r f' = S r f' := fun r hr => zu_off (by omega)
    rw [z 0 (by decide), z 1 (by decide)]
    obtain ⟨g1, g2, g3⟩ := h.2 f' hf'
    refine ⟨g1, g2, ?_⟩
    unfold zu
    split
    · exact hv
    · exact g3
theorem sInv_store {P : zP} {S : zS} (h : sInv P S) {b : Nat} {v : Int32} (hv : rg v 0 9999) : sInv P (zu S 6 b v) := by
  refine ⟨fun b' hb' => ?_, fun f' hf' => ?_⟩
  · obtain ⟨g1, g2, g3, g4, g5⟩ := h.1 b' hb'
    have z : ∀ r, r ≠ 6 → zu S 6 b v r b' = S r b' := fun r hr => zu_off fun q => hr q.1
    rw [z 3 (by decide), z 4 (by decide), z 5 (by decide), z 7 (by decide)]
    refine ⟨g1, g2, g3, ?_, g5⟩
    unfold zu
    split
    · exact hv
    · exact g4
  · have z : ∀ r, r < 4 → zu S 6 b v r f' = S r f' := fun r hr => zu_off (by omega)
    rw [z 0 (by decide), z 1 (by decide), z 2 (by decide)]
    exact h.2 f' hf'
theorem sInv_owes {P : zP} {S : zS} (h : sInv P S) {b : Nat} {v : Int32} (hv : rg v 0 9999) : sInv P (zu S 7 b v) := by
  refine ⟨fun b' hb' => ?_, fun f' hf' => ?_⟩
  · obtain ⟨g1, g2, g3, g4, g5⟩ := h.1 b' hb'
    have z : ∀ r, r ≠ 7 → zu S 7 b v r b' = S r b' := fun r hr => zu_off fun q => hr q.1
    rw [z 3 (by decide), z 4 (by decide), z 5 (by decide), z 6 (by decide)]
    refine ⟨g1, g2, g3, g4, ?_⟩
    unfold zu
    split
    · exact hv
    · exact g5
  · have z : ∀ r, r < 4 → zu S 7 b v r f' = S r f' := fun r hr => zu_off (by omega)
    rw [z 0 (by decide), z 1 (by decide), z 2 (by decide)]
    exact h.2 f' hf'
theorem bS_keep {b : zBk} : bS (bKeep b) = bS b := rfl
section L39
variable {K : zKd} {F : zFd} {I : zId} {L : zLd} {n a N : Nat} {P : zP} {X : zXd} {b : zBk}
theorem zCB.set (h : zCB K F I a N P X b) {r j : Nat} (hr : r < 9) (hj : j < zlm (pnf P) (pnb P) r) {v : Int32} (hi : sInv P (zu (bS b) r j v)) : zCB K F (zu I (1014 + 1 + r) j v) a N P X (bSt b (zu (bS b) r j v)) ∧ zaf a I (zu I (1014 + 1 + r) j v) :=
  h.st (fun x p q => zu_row (by omega)) (by rw [zcv_zu r hr hj, h.now]) hi
/-- an act of the component: what it answers and leaves -/
def zActC (op : zSt → Option ((Nat × Nat) × ((Int32 ⊕ (String × Nat)) × zSt))) (n : Nat) (K : zKd) (F : zFd) (I : zId) (L : zLd) (a N : Nat) (P : zP) (X : zXd) (q : (Int32 ⊕ Nat) × zBk) : Prop := ∃ F' I', op (n, K, F, I, L) = some (qcc q.1, (qC q.1, (n, K, F', I', L))) ∧ zCB K F' I' a N P X q.2 ∧ (∀ x, x ≠ 1025 → F' x = F x) ∧ zaf a I I'
/-- set after does -/
theorem zset_ok (h : zCB K F I a N P X b) (hp : pInv P) {r j : Nat} (hr : r < 9) (hj : j < zlm (pnf P) (pnb P) r) {c v w : Int32} (hc : c = 0 ∨ c = 1) (hi : c = 1 → sInv P (zu (bS b) r j v)) : ∃ F' I', F_X1_does 1000 c (n, K, F, I, L) = some ((0, 0), (c, (n, K, F', I', L))) ∧ (∀ x, x ≠ 1025 → F' x = F x) ∧ zaf a I I' ∧ (c = 0 → zCB K F' I' a N P X (q_set b r j c v w).2 ∧ (q_set b r j c v w).1 = .inl (-1)) ∧ (c = 1 → (I' (1014 + 1 + r) j = bS b r j) ∧ zCB K F' (zu I' (1014 + 1 + r) j v) a N P X (q_set b r j c v w).2 ∧ (q_set b r j c v w).1 = .inl w ∧ zaf a I (zu I' (1014 + 1 + r) j v)) := by
  obtain ⟨F', I', g1, g2, g3, g4⟩ := F_does_ok (n := n) (L := L) h hp hc
  refine ⟨F', I', g1, g3, g4, fun e => ?_, fun e => ?_⟩
  · subst e
    rw [if_pos rfl] at g2
    exact ⟨g2, rfl⟩
  · subst e
    rw [if_neg (by decide)] at g2
    obtain ⟨s1, s2⟩ := g2.set hr hj (v := v) (hi rfl)
    refine ⟨?_, s1, rfl, g4.tr s2⟩
    have e := g2.now
    rw [bS_keep] at e
    rw [← e]
    unfold zcv
    rw [if_pos hj, if_pos hr]
end L39
