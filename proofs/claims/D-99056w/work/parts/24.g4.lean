/-! G4: the law's start: the constants, by number -/
def zlT : List (List Int32) := [[], [102, 111, 114, 101, 115, 116], [114, 105, 118, 101, 114], [98, 97, 110, 100], [102, 111, 114, 116], [116, 97, 120], [102, 111, 120], [108, 105, 109, 105, 116], [104, 117, 110, 116, 115], [59], [40], [111, 114], [97, 110, 100], [110, 111, 116], [60], [61], [43], [45], [42], [47], [41], [98, 111, 119, 115], [115, 97, 98, 108, 101, 115], [111, 119, 101, 115], [100, 117, 101], [121, 101, 97, 114], [115, 116, 111, 114, 101], [111, 116, 104, 101, 114, 115], [98, 111, 119, 115], [115, 97, 98, 108, 101, 115], [111, 119, 101, 115], [100, 117, 101], [121, 101, 97, 114], [115, 116, 111, 114, 101], [111, 116, 104, 101, 114, 115], [110, 111, 116], [97, 110, 100], [111, 114], [116, 97, 120], [102, 111, 120], [108, 105, 109, 105, 116], [104, 117, 110, 116, 115], [102, 111, 114, 101, 115, 116], [114, 105, 118, 101, 114], [98, 97, 110, 100], [102, 111, 114, 116]]
abbrev zlb (i : Nat) : List Int32 := zlT.getD i []
def zK0 (L : Nat) : zKd := fun o => if o < 5 then some (20, 0) else if o < 10 then none else if o < 17 then some (21, o - 10) else if o = 17 then some (70, 7) else if o = 18 then some (71, 256) else if o < 21 then none else if o = 21 then some (22, 0) else if o < 25 then none else if o = 25 then some (64, L) else if o < 30 then some (22, 0) else if o < 122 then (if o % 2 = 0 then some (15, 0) else some (65, (zlb ((o - 30) / 2)).length)) else if o < 200 then none else if o < 456 then some (17, 0) else none
def zF0 (nf : Nat → Bool) : zFd := fun o k => if o = 17 then (if k < 7 then some (10 + k) else none) else if o = 18 then (if k < 256 then some (200 + k) else none) else if o = 26 then (if k < 3 then (if nf k = true then some (27 + k) else none) else none) else if 30 ≤ o ∧ o < 122 ∧ o % 2 = 0 ∧ k = 0 then some (o + 1) else none
def zI0 (xs : Nat → Int32) : zId := fun o k => if o = 25 then xs k else if 30 ≤ o ∧ o < 122 ∧ o % 2 = 1 then (zlb ((o - 30) / 2)).getD k 0 else if 200 ≤ o ∧ o < 456 ∧ k = 0 then vb_c (o - 200) else 0
def zA0 (aS aV aI nA : Nat → Nat) (tV tC mi b : Nat) (g : Nat → Nat × Nat) : Nat → Nat := fun o => if o < 5 then aS o else if o < 17 then aV (o - 10) else if o = 17 then tV else if o = 18 then tC else if o = 21 then mi else if o = 25 then b else if o = 26 then b else if o < 30 then nA (o - 27) else if o < 122 then (if o % 2 = 0 then (g ((o - 30) / 2)).1 else (g ((o - 30) / 2)).2) else aI (o - 200)
/-- the constants' numbers -/
theorem zK0_cs {L o : Nat} {q : Nat × Nat} (h : zK0 L o = some q) : (o < 5 ∧ q = (20, 0)) ∨ (∃ i, i < 7 ∧ o = 10 + i ∧ q = (21, i)) ∨ (o = 17 ∧ q = (70, 7)) ∨ (o = 18 ∧ q = (71, 256)) ∨ (o = 21 ∧ q = (22, 0)) ∨ (o = 25 ∧ q = (64, L)) ∨ ((26 ≤ o ∧ o < 30) ∧ q = (22, 0)) ∨ (∃ i, i < 46 ∧ o = 30 + 2 * i ∧ q = (15, 0)) ∨ (∃ i, i < 46 ∧ o = 31 + 2 * i ∧ q = (65, (zlb i).length)) ∨ ∃ i, i < 256 ∧ o = 200 + i ∧ q = (17, 0) := by
  unfold zK0 at h
  by_cases h1 : o < 5
  · rw [if_pos h1] at h; exact Or.inl ⟨h1, (Option.some.inj h).symm⟩
  refine Or.inr ?_
  rw [if_neg h1] at h
  by_cases h2 : o < 10
  · rw [if_pos h2] at h; cases h
  rw [if_neg h2] at h
  by_cases h3 : o < 17
  · rw [if_pos h3] at h; exact Or.inl ⟨o - 10, by omega, by omega, (Option.some.inj h).symm⟩
  refine Or.inr ?_
  rw [if_neg h3] at h
  by_cases h4 : o = 17
  · rw [if_pos h4] at h; exact Or.inl ⟨h4, (Option.some.inj h).symm⟩
  refine Or.inr ?_
  rw [if_neg h4] at h
  by_cases h5 : o = 18
  · rw [if_pos h5] at h; exact Or.inl ⟨h5, (Option.some.inj h).symm⟩
  refine Or.inr ?_
  rw [if_neg h5] at h
  by_cases h6 : o < 21
  · rw [if_pos h6] at h; cases h
  rw [if_neg h6] at h
  by_cases h7 : o = 21
  · rw [if_pos h7] at h; exact Or.inl ⟨h7, (Option.some.inj h).symm⟩
  refine Or.inr ?_
  rw [if_neg h7] at h
  by_cases h8 : o < 25
  · rw [if_pos h8] at h; cases h
  rw [if_neg h8] at h
  by_cases h9 : o = 25
  · rw [if_pos h9] at h; exact Or.inl ⟨h9, (Option.some.inj h).symm⟩
  refine Or.inr ?_
  rw [if_neg h9] at h
  by_cases h10 : o < 30
  · rw [if_pos h10] at h; exact Or.inl ⟨⟨by omega, h10⟩, (Option.some.inj h).symm⟩
  refine Or.inr ?_
  rw [if_neg h10] at h
  by_cases h11 : o < 122
  · rw [if_pos h11] at h
    by_cases h12 : o % 2 = 0
    · rw [if_pos h12] at h; exact Or.inl ⟨(o - 30) / 2, by omega, by omega, (Option.some.inj h).symm⟩
    · rw [if_neg h12] at h; exact Or.inr (Or.inl ⟨(o - 30) / 2, by omega, by omega, (Option.some.inj h).symm⟩)
  rw [if_neg h11] at h
  by_cases h13 : o < 200
  · rw [if_pos h13] at h; cases h
  rw [if_neg h13] at h
  by_cases h14 : o < 456
  · rw [if_pos h14] at h; exact Or.inr (Or.inr ⟨o - 200, by omega, by omega, (Option.some.inj h).symm⟩)
  · rw [if_neg h14] at h; cases h
section G4a
variable {aS aV aI nA : Nat → Nat} {tV tC mi b : Nat} {g : Nat → Nat × Nat} {nf : Nat → Bool} {xs : Nat → Int32}
theorem zA0_s {o : Nat} (h : o < 5) : zA0 aS aV aI nA tV tC mi b g o = aS o := if_pos h
theorem zA0_v {i : Nat} (h : i < 7) : zA0 aS aV aI nA tV tC mi b g (10 + i) = aV i := by
  unfold zA0
  rw [if_neg (by omega), if_pos (by omega), show 10 + i - 10 = i by omega]
theorem zA0_n {i : Nat} (h : i < 3) : zA0 aS aV aI nA tV tC mi b g (27 + i) = nA i := by
  unfold zA0
  rw [if_neg (by omega), if_neg (by omega), if_neg (by omega), if_neg (by omega), if_neg (by omega), if_neg (by omega), if_neg (by omega), if_pos (by omega), show 27 + i - 27 = i by omega]
theorem zA0_l {i : Nat} (h : i < 46) : zA0 aS aV aI nA tV tC mi b g (30 + 2 * i) = (g i).1 := by
  unfold zA0
  rw [if_neg (by omega), if_neg (by omega), if_neg (by omega), if_neg (by omega), if_neg (by omega), if_neg (by omega), if_neg (by omega), if_neg (by omega), if_pos (by omega), if_pos (by omega), show (30 + 2 * i - 30) / 2 = i by omega]
theorem zA0_m {i : Nat} (h : i < 46) : zA0 aS aV aI nA tV tC mi b g (31 + 2 * i) = (g i).2 := by
  unfold zA0
  rw [if_neg (by omega), if_neg (by omega), if_neg (by omega), if_neg (by omega), if_neg (by omega), if_neg (by omega), if_neg (by omega), if_neg (by omega), if_pos (by omega), if_neg (by omega), show (31 + 2 * i - 30) / 2 = i by omega]
theorem zA0_i {i : Nat} : zA0 aS aV aI nA tV tC mi b g (200 + i) = aI i := by
  unfold zA0
  rw [if_neg (by omega), if_neg (by omega), if_neg (by omega), if_neg (by omega), if_neg (by omega), if_neg (by omega), if_neg (by omega), if_neg (by omega), if_neg (by omega), show 200 + i - 200 = i by omega]
theorem zF0_l {i : Nat} (h : i < 46) : zF0 nf (30 + 2 * i) 0 = some (31 + 2 * i) := by
  unfold zF0
  rw [if_neg (by omega), if_neg (by omega), if_neg (by omega), if_pos (by omega)]
  congr 1
  omega
theorem zI0_b {i : Nat} (h : i < 46) (k : Nat) : zI0 xs (31 + 2 * i) k = (zlb i).getD k 0 := by
  unfold zI0
  rw [if_neg (by omega), if_pos (by omega), show (31 + 2 * i - 30) / 2 = i by omega]
theorem zI0_c {i : Nat} (h : i < 46) : zI0 xs (30 + 2 * i) 1 = 0 := by
  unfold zI0
  rw [if_neg (by omega), if_neg (by omega), if_neg (by omega)]
theorem zI0_i {i : Nat} (h : i < 256) : zI0 xs (200 + i) 0 = vb_c i := by
  unfold zI0
  rw [if_neg (by omega), if_neg (by omega), if_pos (by omega), show 200 + i - 200 = i by omega]
theorem zF0_lt {o k j : Nat} (h : zF0 nf o k = some j) : j < zNC := by
  unfold zF0 at h
  show j < 600
  repeat' split at h
  all_goals first | (cases h; omega) | (have := Option.some.inj h; omega) | cases h
end G4a
theorem va_T.cg {ty : FieldType} {t N : Nat} {f g : Nat → Value} {A : Nat → Prop} {U : State} {H : Heap} (h : va_T ty t N f A U H) (e : ∀ j, j < N → f j = g j) : va_T ty t N g A U H := by
  obtain ⟨cell, h1, h2, h3, h4, h5, h6, h7⟩ := h
  exact ⟨cell, h1, h2, h3, h4, h5, fun j hj => by rw [← e j hj]; exact h6 j hj, h7⟩
theorem va_T.lt {ty : FieldType} {t N : Nat} {f : Nat → Value} {A : Nat → Prop} {U : State} {H : Heap} (h : va_T ty t N f A U H) : t < H.size := by
  obtain ⟨cell, h1, -⟩ := h
  exact (Array.getElem?_eq_some_iff.mp h1).1
theorem va_O.lt {E : String} {t : Nat} {A : Nat → Prop} {U : State} {H : Heap} (h : va_O E t A U H) : t < H.size := by
  obtain ⟨cell, h1, -⟩ := h
  exact (Array.getElem?_eq_some_iff.mp h1).1
section G4b
variable {args : Array Value} {s : State}
theorem zg_lit_0 (htb : ∀ w ∈ lw_tbl, w.before args s = true) (hgv : (Jvm.Cond.and given_1 narrow_1).before args s = true) {A : Nat → Prop} (hA : ∀ a : Nat, a < s.heap.size → ¬ A a) : ∃ q : Nat × Nat, 0 < 46 → (va_O "java/lang/String" q.1 A s s.heap ∧ va_OF "java/lang/String" "coder" "B" (.int 0) q.1 A s s.heap ∧ va_OF "java/lang/String" "value" "[B" (.ref q.2) q.1 A s s.heap ∧ va_T .byte q.2 (zlb 0).length (fun j => .int ((zlb 0).getD j 0)) A s s.heap) ∧ vk_R (zLit.getD 0 ("", 0, "", 0)).1 (zLit.getD 0 ("", 0, "", 0)).2.1 (zLit.getD 0 ("", 0, "", 0)).2.2.1 q.1 s := by
  have m6 : ∀ j : Nat, j < 0 → (Cond.eq (.elem (.field (.string "SableCrown$Reader" 9) "java/lang/String" "value" "[B") (.int (Int32.ofNat j))) (.int (([] : List Int32).getD j 0))) ∈ flatC (Cond.and given_1 narrow_1) := by decide +kernel
  obtain ⟨a, b, h1, h2⟩ := zg_lit htb hgv hA (own := "SableCrown$Reader") (idx := 9) (tx := "") (n := 0) (bs := []) (by decide) (by decide +kernel) (by decide +kernel) (by decide +kernel) (by decide +kernel) (by decide +kernel) m6
  exact ⟨(a 0, b 0), fun _ => ⟨h1.1 0 (by decide), h2⟩⟩
theorem zg_lit_1 (htb : ∀ w ∈ lw_tbl, w.before args s = true) (hgv : (Jvm.Cond.and given_1 narrow_1).before args s = true) {A : Nat → Prop} (hA : ∀ a : Nat, a < s.heap.size → ¬ A a) : ∃ q : Nat × Nat, 1 < 46 → (va_O "java/lang/String" q.1 A s s.heap ∧ va_OF "java/lang/String" "coder" "B" (.int 0) q.1 A s s.heap ∧ va_OF "java/lang/String" "value" "[B" (.ref q.2) q.1 A s s.heap ∧ va_T .byte q.2 (zlb 1).length (fun j => .int ((zlb 1).getD j 0)) A s s.heap) ∧ vk_R (zLit.getD 1 ("", 0, "", 0)).1 (zLit.getD 1 ("", 0, "", 0)).2.1 (zLit.getD 1 ("", 0, "", 0)).2.2.1 q.1 s := by
  have m6 : ∀ j : Nat, j < 6 → (Cond.eq (.elem (.field (.string "SableCrown$Reader" 126) "java/lang/String" "value" "[B") (.int (Int32.ofNat j))) (.int (([102, 111, 114, 101, 115, 116] : List Int32).getD j 0))) ∈ flatC (Cond.and given_1 narrow_1) := by decide +kernel
  obtain ⟨a, b, h1, h2⟩ := zg_lit htb hgv hA (own := "SableCrown$Reader") (idx := 126) (tx := "forest") (n := 6) (bs := [102, 111, 114, 101, 115, 116]) (by decide) (by decide +kernel) (by decide +kernel) (by decide +kernel) (by decide +kernel) (by decide +kernel) m6
  exact ⟨(a 0, b 0), fun _ => ⟨h1.1 0 (by decide), h2⟩⟩
theorem zg_lit_2 (htb : ∀ w ∈ lw_tbl, w.before args s = true) (hgv : (Jvm.Cond.and given_1 narrow_1).before args s = true) {A : Nat → Prop} (hA : ∀ a : Nat, a < s.heap.size → ¬ A a) : ∃ q : Nat × Nat, 2 < 46 → (va_O "java/lang/String" q.1 A s s.heap ∧ va_OF "java/lang/String" "coder" "B" (.int 0) q.1 A s s.heap ∧ va_OF "java/lang/String" "value" "[B" (.ref q.2) q.1 A s s.heap ∧ va_T .byte q.2 (zlb 2).length (fun j => .int ((zlb 2).getD j 0)) A s s.heap) ∧ vk_R (zLit.getD 2 ("", 0, "", 0)).1 (zLit.getD 2 ("", 0, "", 0)).2.1 (zLit.getD 2 ("", 0, "", 0)).2.2.1 q.1 s := by
  have m6 : ∀ j : Nat, j < 5 → (Cond.eq (.elem (.field (.string "SableCrown$Reader" 148) "java/lang/String" "value" "[B") (.int (Int32.ofNat j))) (.int (([114, 105, 118, 101, 114] : List Int32).getD j 0))) ∈ flatC (Cond.and given_1 narrow_1) := by decide +kernel
  obtain ⟨a, b, h1, h2⟩ := zg_lit htb hgv hA (own := "SableCrown$Reader") (idx := 148) (tx := "river") (n := 5) (bs := [114, 105, 118, 101, 114]) (by decide) (by decide +kernel) (by decide +kernel) (by decide +kernel) (by decide +kernel) (by decide +kernel) m6
  exact ⟨(a 0, b 0), fun _ => ⟨h1.1 0 (by decide), h2⟩⟩
theorem zg_lit_3 (htb : ∀ w ∈ lw_tbl, w.before args s = true) (hgv : (Jvm.Cond.and given_1 narrow_1).before args s = true) {A : Nat → Prop} (hA : ∀ a : Nat, a < s.heap.size → ¬ A a) : ∃ q : Nat × Nat, 3 < 46 → (va_O "java/lang/String" q.1 A s s.heap ∧ va_OF "java/lang/String" "coder" "B" (.int 0) q.1 A s s.heap ∧ va_OF "java/lang/String" "value" "[B" (.ref q.2) q.1 A s s.heap ∧ va_T .byte q.2 (zlb 3).length (fun j => .int ((zlb 3).getD j 0)) A s s.heap) ∧ vk_R (zLit.getD 3 ("", 0, "", 0)).1 (zLit.getD 3 ("", 0, "", 0)).2.1 (zLit.getD 3 ("", 0, "", 0)).2.2.1 q.1 s := by
  have m6 : ∀ j : Nat, j < 4 → (Cond.eq (.elem (.field (.string "SableCrown$Reader" 156) "java/lang/String" "value" "[B") (.int (Int32.ofNat j))) (.int (([98, 97, 110, 100] : List Int32).getD j 0))) ∈ flatC (Cond.and given_1 narrow_1) := by decide +kernel
  obtain ⟨a, b, h1, h2⟩ := zg_lit htb hgv hA (own := "SableCrown$Reader") (idx := 156) (tx := "band") (n := 4) (bs := [98, 97, 110, 100]) (by decide) (by decide +kernel) (by decide +kernel) (by decide +kernel) (by decide +kernel) (by decide +kernel) m6
  exact ⟨(a 0, b 0), fun _ => ⟨h1.1 0 (by decide), h2⟩⟩
theorem zg_lit_4 (htb : ∀ w ∈ lw_tbl, w.before args s = true) (hgv : (Jvm.Cond.and given_1 narrow_1).before args s = true) {A : Nat → Prop} (hA : ∀ a : Nat, a < s.heap.size → ¬ A a) : ∃ q : Nat × Nat, 4 < 46 → (va_O "java/lang/String" q.1 A s s.heap ∧ va_OF "java/lang/String" "coder" "B" (.int 0) q.1 A s s.heap ∧ va_OF "java/lang/String" "value" "[B" (.ref q.2) q.1 A s s.heap ∧ va_T .byte q.2 (zlb 4).length (fun j => .int ((zlb 4).getD j 0)) A s s.heap) ∧ vk_R (zLit.getD 4 ("", 0, "", 0)).1 (zLit.getD 4 ("", 0, "", 0)).2.1 (zLit.getD 4 ("", 0, "", 0)).2.2.1 q.1 s := by
  have m6 : ∀ j : Nat, j < 4 → (Cond.eq (.elem (.field (.string "SableCrown$Reader" 169) "java/lang/String" "value" "[B") (.int (Int32.ofNat j))) (.int (([102, 111, 114, 116] : List Int32).getD j 0))) ∈ flatC (Cond.and given_1 narrow_1) := by decide +kernel
  obtain ⟨a, b, h1, h2⟩ := zg_lit htb hgv hA (own := "SableCrown$Reader") (idx := 169) (tx := "fort") (n := 4) (bs := [102, 111, 114, 116]) (by decide) (by decide +kernel) (by decide +kernel) (by decide +kernel) (by decide +kernel) (by decide +kernel) m6
  exact ⟨(a 0, b 0), fun _ => ⟨h1.1 0 (by decide), h2⟩⟩
theorem zg_lit_5 (htb : ∀ w ∈ lw_tbl, w.before args s = true) (hgv : (Jvm.Cond.and given_1 narrow_1).before args s = true) {A : Nat → Prop} (hA : ∀ a : Nat, a < s.heap.size → ¬ A a) : ∃ q : Nat × Nat, 5 < 46 → (va_O "java/lang/String" q.1 A s s.heap ∧ va_OF "java/lang/String" "coder" "B" (.int 0) q.1 A s s.heap ∧ va_OF "java/lang/String" "value" "[B" (.ref q.2) q.1 A s s.heap ∧ va_T .byte q.2 (zlb 5).length (fun j => .int ((zlb 5).getD j 0)) A s s.heap) ∧ vk_R (zLit.getD 5 ("", 0, "", 0)).1 (zLit.getD 5 ("", 0, "", 0)).2.1 (zLit.getD 5 ("", 0, "", 0)).2.2.1 q.1 s := by
  have m6 : ∀ j : Nat, j < 3 → (Cond.eq (.elem (.field (.string "SableCrown$Reader" 176) "java/lang/String" "value" "[B") (.int (Int32.ofNat j))) (.int (([116, 97, 120] : List Int32).getD j 0))) ∈ flatC (Cond.and given_1 narrow_1) := by decide +kernel
  obtain ⟨a, b, h1, h2⟩ := zg_lit htb hgv hA (own := "SableCrown$Reader") (idx := 176) (tx := "tax") (n := 3) (bs := [116, 97, 120]) (by decide) (by decide +kernel) (by decide +kernel) (by decide +kernel) (by decide +kernel) (by decide +kernel) m6
  exact ⟨(a 0, b 0), fun _ => ⟨h1.1 0 (by decide), h2⟩⟩
theorem zg_lit_6 (htb : ∀ w ∈ lw_tbl, w.before args s = true) (hgv : (Jvm.Cond.and given_1 narrow_1).before args s = true) {A : Nat → Prop} (hA : ∀ a : Nat, a < s.heap.size → ¬ A a) : ∃ q : Nat × Nat, 6 < 46 → (va_O "java/lang/String" q.1 A s s.heap ∧ va_OF "java/lang/String" "coder" "B" (.int 0) q.1 A s s.heap ∧ va_OF "java/lang/String" "value" "[B" (.ref q.2) q.1 A s s.heap ∧ va_T .byte q.2 (zlb 6).length (fun j => .int ((zlb 6).getD j 0)) A s s.heap) ∧ vk_R (zLit.getD 6 ("", 0, "", 0)).1 (zLit.getD 6 ("", 0, "", 0)).2.1 (zLit.getD 6 ("", 0, "", 0)).2.2.1 q.1 s := by
  have m6 : ∀ j : Nat, j < 3 → (Cond.eq (.elem (.field (.string "SableCrown$Reader" 184) "java/lang/String" "value" "[B") (.int (Int32.ofNat j))) (.int (([102, 111, 120] : List Int32).getD j 0))) ∈ flatC (Cond.and given_1 narrow_1) := by decide +kernel
  obtain ⟨a, b, h1, h2⟩ := zg_lit htb hgv hA (own := "SableCrown$Reader") (idx := 184) (tx := "fox") (n := 3) (bs := [102, 111, 120]) (by decide) (by decide +kernel) (by decide +kernel) (by decide +kernel) (by decide +kernel) (by decide +kernel) m6
  exact ⟨(a 0, b 0), fun _ => ⟨h1.1 0 (by decide), h2⟩⟩
theorem zg_lit_7 (htb : ∀ w ∈ lw_tbl, w.before args s = true) (hgv : (Jvm.Cond.and given_1 narrow_1).before args s = true) {A : Nat → Prop} (hA : ∀ a : Nat, a < s.heap.size → ¬ A a) : ∃ q : Nat × Nat, 7 < 46 → (va_O "java/lang/String" q.1 A s s.heap ∧ va_OF "java/lang/String" "coder" "B" (.int 0) q.1 A s s.heap ∧ va_OF "java/lang/String" "value" "[B" (.ref q.2) q.1 A s s.heap ∧ va_T .byte q.2 (zlb 7).length (fun j => .int ((zlb 7).getD j 0)) A s s.heap) ∧ vk_R (zLit.getD 7 ("", 0, "", 0)).1 (zLit.getD 7 ("", 0, "", 0)).2.1 (zLit.getD 7 ("", 0, "", 0)).2.2.1 q.1 s := by
  have m6 : ∀ j : Nat, j < 5 → (Cond.eq (.elem (.field (.string "SableCrown$Reader" 188) "java/lang/String" "value" "[B") (.int (Int32.ofNat j))) (.int (([108, 105, 109, 105, 116] : List Int32).getD j 0))) ∈ flatC (Cond.and given_1 narrow_1) := by decide +kernel
  obtain ⟨a, b, h1, h2⟩ := zg_lit htb hgv hA (own := "SableCrown$Reader") (idx := 188) (tx := "limit") (n := 5) (bs := [108, 105, 109, 105, 116]) (by decide) (by decide +kernel) (by decide +kernel) (by decide +kernel) (by decide +kernel) (by decide +kernel) m6
  exact ⟨(a 0, b 0), fun _ => ⟨h1.1 0 (by decide), h2⟩⟩
theorem zg_lit_8 (htb : ∀ w ∈ lw_tbl, w.before args s = true) (hgv : (Jvm.Cond.and given_1 narrow_1).before args s = true) {A : Nat → Prop} (hA : ∀ a : Nat, a < s.heap.size → ¬ A a) : ∃ q : Nat × Nat, 8 < 46 → (va_O "java/lang/String" q.1 A s s.heap ∧ va_OF "java/lang/String" "coder" "B" (.int 0) q.1 A s s.heap ∧ va_OF "java/lang/String" "value" "[B" (.ref q.2) q.1 A s s.heap ∧ va_T .byte q.2 (zlb 8).length (fun j => .int ((zlb 8).getD j 0)) A s s.heap) ∧ vk_R (zLit.getD 8 ("", 0, "", 0)).1 (zLit.getD 8 ("", 0, "", 0)).2.1 (zLit.getD 8 ("", 0, "", 0)).2.2.1 q.1 s := by
  have m6 : ∀ j : Nat, j < 5 → (Cond.eq (.elem (.field (.string "SableCrown$Reader" 192) "java/lang/String" "value" "[B") (.int (Int32.ofNat j))) (.int (([104, 117, 110, 116, 115] : List Int32).getD j 0))) ∈ flatC (Cond.and given_1 narrow_1) := by decide +kernel
  obtain ⟨a, b, h1, h2⟩ := zg_lit htb hgv hA (own := "SableCrown$Reader") (idx := 192) (tx := "hunts") (n := 5) (bs := [104, 117, 110, 116, 115]) (by decide) (by decide +kernel) (by decide +kernel) (by decide +kernel) (by decide +kernel) (by decide +kernel) m6
  exact ⟨(a 0, b 0), fun _ => ⟨h1.1 0 (by decide), h2⟩⟩
theorem zg_lit_9 (htb : ∀ w ∈ lw_tbl, w.before args s = true) (hgv : (Jvm.Cond.and given_1 narrow_1).before args s = true) {A : Nat → Prop} (hA : ∀ a : Nat, a < s.heap.size → ¬ A a) : ∃ q : Nat × Nat, 9 < 46 → (va_O "java/lang/String" q.1 A s s.heap ∧ va_OF "java/lang/String" "coder" "B" (.int 0) q.1 A s s.heap ∧ va_OF "java/lang/String" "value" "[B" (.ref q.2) q.1 A s s.heap ∧ va_T .byte q.2 (zlb 9).length (fun j => .int ((zlb 9).getD j 0)) A s s.heap) ∧ vk_R (zLit.getD 9 ("", 0, "", 0)).1 (zLit.getD 9 ("", 0, "", 0)).2.1 (zLit.getD 9 ("", 0, "", 0)).2.2.1 q.1 s := by
  have m6 : ∀ j : Nat, j < 1 → (Cond.eq (.elem (.field (.string "SableCrown$Reader" 201) "java/lang/String" "value" "[B") (.int (Int32.ofNat j))) (.int (([59] : List Int32).getD j 0))) ∈ flatC (Cond.and given_1 narrow_1) := by decide +kernel
  obtain ⟨a, b, h1, h2⟩ := zg_lit htb hgv hA (own := "SableCrown$Reader") (idx := 201) (tx := ";") (n := 1) (bs := [59]) (by decide) (by decide +kernel) (by decide +kernel) (by decide +kernel) (by decide +kernel) (by decide +kernel) m6
  exact ⟨(a 0, b 0), fun _ => ⟨h1.1 0 (by decide), h2⟩⟩
theorem zg_lit_10 (htb : ∀ w ∈ lw_tbl, w.before args s = true) (hgv : (Jvm.Cond.and given_1 narrow_1).before args s = true) {A : Nat → Prop} (hA : ∀ a : Nat, a < s.heap.size → ¬ A a) : ∃ q : Nat × Nat, 10 < 46 → (va_O "java/lang/String" q.1 A s s.heap ∧ va_OF "java/lang/String" "coder" "B" (.int 0) q.1 A s s.heap ∧ va_OF "java/lang/String" "value" "[B" (.ref q.2) q.1 A s s.heap ∧ va_T .byte q.2 (zlb 10).length (fun j => .int ((zlb 10).getD j 0)) A s s.heap) ∧ vk_R (zLit.getD 10 ("", 0, "", 0)).1 (zLit.getD 10 ("", 0, "", 0)).2.1 (zLit.getD 10 ("", 0, "", 0)).2.2.1 q.1 s := by
  have m6 : ∀ j : Nat, j < 1 → (Cond.eq (.elem (.field (.string "SableCrown$Reader" 230) "java/lang/String" "value" "[B") (.int (Int32.ofNat j))) (.int (([40] : List Int32).getD j 0))) ∈ flatC (Cond.and given_1 narrow_1) := by decide +kernel
  obtain ⟨a, b, h1, h2⟩ := zg_lit htb hgv hA (own := "SableCrown$Reader") (idx := 230) (tx := "(") (n := 1) (bs := [40]) (by decide) (by decide +kernel) (by decide +kernel) (by decide +kernel) (by decide +kernel) (by decide +kernel) m6
  exact ⟨(a 0, b 0), fun _ => ⟨h1.1 0 (by decide), h2⟩⟩
theorem zg_lit_11 (htb : ∀ w ∈ lw_tbl, w.before args s = true) (hgv : (Jvm.Cond.and given_1 narrow_1).before args s = true) {A : Nat → Prop} (hA : ∀ a : Nat, a < s.heap.size → ¬ A a) : ∃ q : Nat × Nat, 11 < 46 → (va_O "java/lang/String" q.1 A s s.heap ∧ va_OF "java/lang/String" "coder" "B" (.int 0) q.1 A s s.heap ∧ va_OF "java/lang/String" "value" "[B" (.ref q.2) q.1 A s s.heap ∧ va_T .byte q.2 (zlb 11).length (fun j => .int ((zlb 11).getD j 0)) A s s.heap) ∧ vk_R (zLit.getD 11 ("", 0, "", 0)).1 (zLit.getD 11 ("", 0, "", 0)).2.1 (zLit.getD 11 ("", 0, "", 0)).2.2.1 q.1 s := by
  have m6 : ∀ j : Nat, j < 2 → (Cond.eq (.elem (.field (.string "SableCrown$Reader" 235) "java/lang/String" "value" "[B") (.int (Int32.ofNat j))) (.int (([111, 114] : List Int32).getD j 0))) ∈ flatC (Cond.and given_1 narrow_1) := by decide +kernel
  obtain ⟨a, b, h1, h2⟩ := zg_lit htb hgv hA (own := "SableCrown$Reader") (idx := 235) (tx := "or") (n := 2) (bs := [111, 114]) (by decide) (by decide +kernel) (by decide +kernel) (by decide +kernel) (by decide +kernel) (by decide +kernel) m6
  exact ⟨(a 0, b 0), fun _ => ⟨h1.1 0 (by decide), h2⟩⟩
theorem zg_lit_12 (htb : ∀ w ∈ lw_tbl, w.before args s = true) (hgv : (Jvm.Cond.and given_1 narrow_1).before args s = true) {A : Nat → Prop} (hA : ∀ a : Nat, a < s.heap.size → ¬ A a) : ∃ q : Nat × Nat, 12 < 46 → (va_O "java/lang/String" q.1 A s s.heap ∧ va_OF "java/lang/String" "coder" "B" (.int 0) q.1 A s s.heap ∧ va_OF "java/lang/String" "value" "[B" (.ref q.2) q.1 A s s.heap ∧ va_T .byte q.2 (zlb 12).length (fun j => .int ((zlb 12).getD j 0)) A s s.heap) ∧ vk_R (zLit.getD 12 ("", 0, "", 0)).1 (zLit.getD 12 ("", 0, "", 0)).2.1 (zLit.getD 12 ("", 0, "", 0)).2.2.1 q.1 s := by
  have m6 : ∀ j : Nat, j < 3 → (Cond.eq (.elem (.field (.string "SableCrown$Reader" 245) "java/lang/String" "value" "[B") (.int (Int32.ofNat j))) (.int (([97, 110, 100] : List Int32).getD j 0))) ∈ flatC (Cond.and given_1 narrow_1) := by decide +kernel
  obtain ⟨a, b, h1, h2⟩ := zg_lit htb hgv hA (own := "SableCrown$Reader") (idx := 245) (tx := "and") (n := 3) (bs := [97, 110, 100]) (by decide) (by decide +kernel) (by decide +kernel) (by decide +kernel) (by decide +kernel) (by decide +kernel) m6
  exact ⟨(a 0, b 0), fun _ => ⟨h1.1 0 (by decide), h2⟩⟩
theorem zg_lit_13 (htb : ∀ w ∈ lw_tbl, w.before args s = true) (hgv : (Jvm.Cond.and given_1 narrow_1).before args s = true) {A : Nat → Prop} (hA : ∀ a : Nat, a < s.heap.size → ¬ A a) : ∃ q : Nat × Nat, 13 < 46 → (va_O "java/lang/String" q.1 A s s.heap ∧ va_OF "java/lang/String" "coder" "B" (.int 0) q.1 A s s.heap ∧ va_OF "java/lang/String" "value" "[B" (.ref q.2) q.1 A s s.heap ∧ va_T .byte q.2 (zlb 13).length (fun j => .int ((zlb 13).getD j 0)) A s s.heap) ∧ vk_R (zLit.getD 13 ("", 0, "", 0)).1 (zLit.getD 13 ("", 0, "", 0)).2.1 (zLit.getD 13 ("", 0, "", 0)).2.2.1 q.1 s := by
  have m6 : ∀ j : Nat, j < 3 → (Cond.eq (.elem (.field (.string "SableCrown$Reader" 246) "java/lang/String" "value" "[B") (.int (Int32.ofNat j))) (.int (([110, 111, 116] : List Int32).getD j 0))) ∈ flatC (Cond.and given_1 narrow_1) := by decide +kernel
  obtain ⟨a, b, h1, h2⟩ := zg_lit htb hgv hA (own := "SableCrown$Reader") (idx := 246) (tx := "not") (n := 3) (bs := [110, 111, 116]) (by decide) (by decide +kernel) (by decide +kernel) (by decide +kernel) (by decide +kernel) (by decide +kernel) m6
  exact ⟨(a 0, b 0), fun _ => ⟨h1.1 0 (by decide), h2⟩⟩
theorem zg_lit_14 (htb : ∀ w ∈ lw_tbl, w.before args s = true) (hgv : (Jvm.Cond.and given_1 narrow_1).before args s = true) {A : Nat → Prop} (hA : ∀ a : Nat, a < s.heap.size → ¬ A a) : ∃ q : Nat × Nat, 14 < 46 → (va_O "java/lang/String" q.1 A s s.heap ∧ va_OF "java/lang/String" "coder" "B" (.int 0) q.1 A s s.heap ∧ va_OF "java/lang/String" "value" "[B" (.ref q.2) q.1 A s s.heap ∧ va_T .byte q.2 (zlb 14).length (fun j => .int ((zlb 14).getD j 0)) A s s.heap) ∧ vk_R (zLit.getD 14 ("", 0, "", 0)).1 (zLit.getD 14 ("", 0, "", 0)).2.1 (zLit.getD 14 ("", 0, "", 0)).2.2.1 q.1 s := by
  have m6 : ∀ j : Nat, j < 1 → (Cond.eq (.elem (.field (.string "SableCrown$Reader" 250) "java/lang/String" "value" "[B") (.int (Int32.ofNat j))) (.int (([60] : List Int32).getD j 0))) ∈ flatC (Cond.and given_1 narrow_1) := by decide +kernel
  obtain ⟨a, b, h1, h2⟩ := zg_lit htb hgv hA (own := "SableCrown$Reader") (idx := 250) (tx := "<") (n := 1) (bs := [60]) (by decide) (by decide +kernel) (by decide +kernel) (by decide +kernel) (by decide +kernel) (by decide +kernel) m6
  exact ⟨(a 0, b 0), fun _ => ⟨h1.1 0 (by decide), h2⟩⟩
theorem zg_lit_15 (htb : ∀ w ∈ lw_tbl, w.before args s = true) (hgv : (Jvm.Cond.and given_1 narrow_1).before args s = true) {A : Nat → Prop} (hA : ∀ a : Nat, a < s.heap.size → ¬ A a) : ∃ q : Nat × Nat, 15 < 46 → (va_O "java/lang/String" q.1 A s s.heap ∧ va_OF "java/lang/String" "coder" "B" (.int 0) q.1 A s s.heap ∧ va_OF "java/lang/String" "value" "[B" (.ref q.2) q.1 A s s.heap ∧ va_T .byte q.2 (zlb 15).length (fun j => .int ((zlb 15).getD j 0)) A s s.heap) ∧ vk_R (zLit.getD 15 ("", 0, "", 0)).1 (zLit.getD 15 ("", 0, "", 0)).2.1 (zLit.getD 15 ("", 0, "", 0)).2.2.1 q.1 s := by
  have m6 : ∀ j : Nat, j < 1 → (Cond.eq (.elem (.field (.string "SableCrown$Reader" 252) "java/lang/String" "value" "[B") (.int (Int32.ofNat j))) (.int (([61] : List Int32).getD j 0))) ∈ flatC (Cond.and given_1 narrow_1) := by decide +kernel
  obtain ⟨a, b, h1, h2⟩ := zg_lit htb hgv hA (own := "SableCrown$Reader") (idx := 252) (tx := "=") (n := 1) (bs := [61]) (by decide) (by decide +kernel) (by decide +kernel) (by decide +kernel) (by decide +kernel) (by decide +kernel) m6
  exact ⟨(a 0, b 0), fun _ => ⟨h1.1 0 (by decide), h2⟩⟩
theorem zg_lit_16 (htb : ∀ w ∈ lw_tbl, w.before args s = true) (hgv : (Jvm.Cond.and given_1 narrow_1).before args s = true) {A : Nat → Prop} (hA : ∀ a : Nat, a < s.heap.size → ¬ A a) : ∃ q : Nat × Nat, 16 < 46 → (va_O "java/lang/String" q.1 A s s.heap ∧ va_OF "java/lang/String" "coder" "B" (.int 0) q.1 A s s.heap ∧ va_OF "java/lang/String" "value" "[B" (.ref q.2) q.1 A s s.heap ∧ va_T .byte q.2 (zlb 16).length (fun j => .int ((zlb 16).getD j 0)) A s s.heap) ∧ vk_R (zLit.getD 16 ("", 0, "", 0)).1 (zLit.getD 16 ("", 0, "", 0)).2.1 (zLit.getD 16 ("", 0, "", 0)).2.2.1 q.1 s := by
  have m6 : ∀ j : Nat, j < 1 → (Cond.eq (.elem (.field (.string "SableCrown$Reader" 266) "java/lang/String" "value" "[B") (.int (Int32.ofNat j))) (.int (([43] : List Int32).getD j 0))) ∈ flatC (Cond.and given_1 narrow_1) := by decide +kernel
  obtain ⟨a, b, h1, h2⟩ := zg_lit htb hgv hA (own := "SableCrown$Reader") (idx := 266) (tx := "+") (n := 1) (bs := [43]) (by decide) (by decide +kernel) (by decide +kernel) (by decide +kernel) (by decide +kernel) (by decide +kernel) m6
  exact ⟨(a 0, b 0), fun _ => ⟨h1.1 0 (by decide), h2⟩⟩
theorem zg_lit_17 (htb : ∀ w ∈ lw_tbl, w.before args s = true) (hgv : (Jvm.Cond.and given_1 narrow_1).before args s = true) {A : Nat → Prop} (hA : ∀ a : Nat, a < s.heap.size → ¬ A a) : ∃ q : Nat × Nat, 17 < 46 → (va_O "java/lang/String" q.1 A s s.heap ∧ va_OF "java/lang/String" "coder" "B" (.int 0) q.1 A s s.heap ∧ va_OF "java/lang/String" "value" "[B" (.ref q.2) q.1 A s s.heap ∧ va_T .byte q.2 (zlb 17).length (fun j => .int ((zlb 17).getD j 0)) A s s.heap) ∧ vk_R (zLit.getD 17 ("", 0, "", 0)).1 (zLit.getD 17 ("", 0, "", 0)).2.1 (zLit.getD 17 ("", 0, "", 0)).2.2.1 q.1 s := by
  have m6 : ∀ j : Nat, j < 1 → (Cond.eq (.elem (.field (.string "SableCrown$Reader" 268) "java/lang/String" "value" "[B") (.int (Int32.ofNat j))) (.int (([45] : List Int32).getD j 0))) ∈ flatC (Cond.and given_1 narrow_1) := by decide +kernel
  obtain ⟨a, b, h1, h2⟩ := zg_lit htb hgv hA (own := "SableCrown$Reader") (idx := 268) (tx := "-") (n := 1) (bs := [45]) (by decide) (by decide +kernel) (by decide +kernel) (by decide +kernel) (by decide +kernel) (by decide +kernel) m6
  exact ⟨(a 0, b 0), fun _ => ⟨h1.1 0 (by decide), h2⟩⟩
theorem zg_lit_18 (htb : ∀ w ∈ lw_tbl, w.before args s = true) (hgv : (Jvm.Cond.and given_1 narrow_1).before args s = true) {A : Nat → Prop} (hA : ∀ a : Nat, a < s.heap.size → ¬ A a) : ∃ q : Nat × Nat, 18 < 46 → (va_O "java/lang/String" q.1 A s s.heap ∧ va_OF "java/lang/String" "coder" "B" (.int 0) q.1 A s s.heap ∧ va_OF "java/lang/String" "value" "[B" (.ref q.2) q.1 A s s.heap ∧ va_T .byte q.2 (zlb 18).length (fun j => .int ((zlb 18).getD j 0)) A s s.heap) ∧ vk_R (zLit.getD 18 ("", 0, "", 0)).1 (zLit.getD 18 ("", 0, "", 0)).2.1 (zLit.getD 18 ("", 0, "", 0)).2.2.1 q.1 s := by
  have m6 : ∀ j : Nat, j < 1 → (Cond.eq (.elem (.field (.string "SableCrown$Reader" 273) "java/lang/String" "value" "[B") (.int (Int32.ofNat j))) (.int (([42] : List Int32).getD j 0))) ∈ flatC (Cond.and given_1 narrow_1) := by decide +kernel
  obtain ⟨a, b, h1, h2⟩ := zg_lit htb hgv hA (own := "SableCrown$Reader") (idx := 273) (tx := "*") (n := 1) (bs := [42]) (by decide) (by decide +kernel) (by decide +kernel) (by decide +kernel) (by decide +kernel) (by decide +kernel) m6
  exact ⟨(a 0, b 0), fun _ => ⟨h1.1 0 (by decide), h2⟩⟩
theorem zg_lit_19 (htb : ∀ w ∈ lw_tbl, w.before args s = true) (hgv : (Jvm.Cond.and given_1 narrow_1).before args s = true) {A : Nat → Prop} (hA : ∀ a : Nat, a < s.heap.size → ¬ A a) : ∃ q : Nat × Nat, 19 < 46 → (va_O "java/lang/String" q.1 A s s.heap ∧ va_OF "java/lang/String" "coder" "B" (.int 0) q.1 A s s.heap ∧ va_OF "java/lang/String" "value" "[B" (.ref q.2) q.1 A s s.heap ∧ va_T .byte q.2 (zlb 19).length (fun j => .int ((zlb 19).getD j 0)) A s s.heap) ∧ vk_R (zLit.getD 19 ("", 0, "", 0)).1 (zLit.getD 19 ("", 0, "", 0)).2.1 (zLit.getD 19 ("", 0, "", 0)).2.2.1 q.1 s := by
  have m6 : ∀ j : Nat, j < 1 → (Cond.eq (.elem (.field (.string "SableCrown$Reader" 275) "java/lang/String" "value" "[B") (.int (Int32.ofNat j))) (.int (([47] : List Int32).getD j 0))) ∈ flatC (Cond.and given_1 narrow_1) := by decide +kernel
  obtain ⟨a, b, h1, h2⟩ := zg_lit htb hgv hA (own := "SableCrown$Reader") (idx := 275) (tx := "/") (n := 1) (bs := [47]) (by decide) (by decide +kernel) (by decide +kernel) (by decide +kernel) (by decide +kernel) (by decide +kernel) m6
  exact ⟨(a 0, b 0), fun _ => ⟨h1.1 0 (by decide), h2⟩⟩
theorem zg_lit_20 (htb : ∀ w ∈ lw_tbl, w.before args s = true) (hgv : (Jvm.Cond.and given_1 narrow_1).before args s = true) {A : Nat → Prop} (hA : ∀ a : Nat, a < s.heap.size → ¬ A a) : ∃ q : Nat × Nat, 20 < 46 → (va_O "java/lang/String" q.1 A s s.heap ∧ va_OF "java/lang/String" "coder" "B" (.int 0) q.1 A s s.heap ∧ va_OF "java/lang/String" "value" "[B" (.ref q.2) q.1 A s s.heap ∧ va_T .byte q.2 (zlb 20).length (fun j => .int ((zlb 20).getD j 0)) A s s.heap) ∧ vk_R (zLit.getD 20 ("", 0, "", 0)).1 (zLit.getD 20 ("", 0, "", 0)).2.1 (zLit.getD 20 ("", 0, "", 0)).2.2.1 q.1 s := by
  have m6 : ∀ j : Nat, j < 1 → (Cond.eq (.elem (.field (.string "SableCrown$Reader" 280) "java/lang/String" "value" "[B") (.int (Int32.ofNat j))) (.int (([41] : List Int32).getD j 0))) ∈ flatC (Cond.and given_1 narrow_1) := by decide +kernel
  obtain ⟨a, b, h1, h2⟩ := zg_lit htb hgv hA (own := "SableCrown$Reader") (idx := 280) (tx := ")") (n := 1) (bs := [41]) (by decide) (by decide +kernel) (by decide +kernel) (by decide +kernel) (by decide +kernel) (by decide +kernel) m6
  exact ⟨(a 0, b 0), fun _ => ⟨h1.1 0 (by decide), h2⟩⟩
theorem zg_lit_21 (htb : ∀ w ∈ lw_tbl, w.before args s = true) (hgv : (Jvm.Cond.and given_1 narrow_1).before args s = true) {A : Nat → Prop} (hA : ∀ a : Nat, a < s.heap.size → ¬ A a) : ∃ q : Nat × Nat, 21 < 46 → (va_O "java/lang/String" q.1 A s s.heap ∧ va_OF "java/lang/String" "coder" "B" (.int 0) q.1 A s s.heap ∧ va_OF "java/lang/String" "value" "[B" (.ref q.2) q.1 A s s.heap ∧ va_T .byte q.2 (zlb 21).length (fun j => .int ((zlb 21).getD j 0)) A s s.heap) ∧ vk_R (zLit.getD 21 ("", 0, "", 0)).1 (zLit.getD 21 ("", 0, "", 0)).2.1 (zLit.getD 21 ("", 0, "", 0)).2.2.1 q.1 s := by
  have m6 : ∀ j : Nat, j < 4 → (Cond.eq (.elem (.field (.string "SableCrown$Reader" 290) "java/lang/String" "value" "[B") (.int (Int32.ofNat j))) (.int (([98, 111, 119, 115] : List Int32).getD j 0))) ∈ flatC (Cond.and given_1 narrow_1) := by decide +kernel
  obtain ⟨a, b, h1, h2⟩ := zg_lit htb hgv hA (own := "SableCrown$Reader") (idx := 290) (tx := "bows") (n := 4) (bs := [98, 111, 119, 115]) (by decide) (by decide +kernel) (by decide +kernel) (by decide +kernel) (by decide +kernel) (by decide +kernel) m6
  exact ⟨(a 0, b 0), fun _ => ⟨h1.1 0 (by decide), h2⟩⟩
theorem zg_lit_22 (htb : ∀ w ∈ lw_tbl, w.before args s = true) (hgv : (Jvm.Cond.and given_1 narrow_1).before args s = true) {A : Nat → Prop} (hA : ∀ a : Nat, a < s.heap.size → ¬ A a) : ∃ q : Nat × Nat, 22 < 46 → (va_O "java/lang/String" q.1 A s s.heap ∧ va_OF "java/lang/String" "coder" "B" (.int 0) q.1 A s s.heap ∧ va_OF "java/lang/String" "value" "[B" (.ref q.2) q.1 A s s.heap ∧ va_T .byte q.2 (zlb 22).length (fun j => .int ((zlb 22).getD j 0)) A s s.heap) ∧ vk_R (zLit.getD 22 ("", 0, "", 0)).1 (zLit.getD 22 ("", 0, "", 0)).2.1 (zLit.getD 22 ("", 0, "", 0)).2.2.1 q.1 s := by
  have m6 : ∀ j : Nat, j < 6 → (Cond.eq (.elem (.field (.string "SableCrown$Reader" 298) "java/lang/String" "value" "[B") (.int (Int32.ofNat j))) (.int (([115, 97, 98, 108, 101, 115] : List Int32).getD j 0))) ∈ flatC (Cond.and given_1 narrow_1) := by decide +kernel
  obtain ⟨a, b, h1, h2⟩ := zg_lit htb hgv hA (own := "SableCrown$Reader") (idx := 298) (tx := "sables") (n := 6) (bs := [115, 97, 98, 108, 101, 115]) (by decide) (by decide +kernel) (by decide +kernel) (by decide +kernel) (by decide +kernel) (by decide +kernel) m6
  exact ⟨(a 0, b 0), fun _ => ⟨h1.1 0 (by decide), h2⟩⟩
theorem zg_lit_23 (htb : ∀ w ∈ lw_tbl, w.before args s = true) (hgv : (Jvm.Cond.and given_1 narrow_1).before args s = true) {A : Nat → Prop} (hA : ∀ a : Nat, a < s.heap.size → ¬ A a) : ∃ q : Nat × Nat, 23 < 46 → (va_O "java/lang/String" q.1 A s s.heap ∧ va_OF "java/lang/String" "coder" "B" (.int 0) q.1 A s s.heap ∧ va_OF "java/lang/String" "value" "[B" (.ref q.2) q.1 A s s.heap ∧ va_T .byte q.2 (zlb 23).length (fun j => .int ((zlb 23).getD j 0)) A s s.heap) ∧ vk_R (zLit.getD 23 ("", 0, "", 0)).1 (zLit.getD 23 ("", 0, "", 0)).2.1 (zLit.getD 23 ("", 0, "", 0)).2.2.1 q.1 s := by
  have m6 : ∀ j : Nat, j < 4 → (Cond.eq (.elem (.field (.string "SableCrown$Reader" 303) "java/lang/String" "value" "[B") (.int (Int32.ofNat j))) (.int (([111, 119, 101, 115] : List Int32).getD j 0))) ∈ flatC (Cond.and given_1 narrow_1) := by decide +kernel
  obtain ⟨a, b, h1, h2⟩ := zg_lit htb hgv hA (own := "SableCrown$Reader") (idx := 303) (tx := "owes") (n := 4) (bs := [111, 119, 101, 115]) (by decide) (by decide +kernel) (by decide +kernel) (by decide +kernel) (by decide +kernel) (by decide +kernel) m6
  exact ⟨(a 0, b 0), fun _ => ⟨h1.1 0 (by decide), h2⟩⟩
theorem zg_lit_24 (htb : ∀ w ∈ lw_tbl, w.before args s = true) (hgv : (Jvm.Cond.and given_1 narrow_1).before args s = true) {A : Nat → Prop} (hA : ∀ a : Nat, a < s.heap.size → ¬ A a) : ∃ q : Nat × Nat, 24 < 46 → (va_O "java/lang/String" q.1 A s s.heap ∧ va_OF "java/lang/String" "coder" "B" (.int 0) q.1 A s s.heap ∧ va_OF "java/lang/String" "value" "[B" (.ref q.2) q.1 A s s.heap ∧ va_T .byte q.2 (zlb 24).length (fun j => .int ((zlb 24).getD j 0)) A s s.heap) ∧ vk_R (zLit.getD 24 ("", 0, "", 0)).1 (zLit.getD 24 ("", 0, "", 0)).2.1 (zLit.getD 24 ("", 0, "", 0)).2.2.1 q.1 s := by
  have m6 : ∀ j : Nat, j < 3 → (Cond.eq (.elem (.field (.string "SableCrown$Reader" 308) "java/lang/String" "value" "[B") (.int (Int32.ofNat j))) (.int (([100, 117, 101] : List Int32).getD j 0))) ∈ flatC (Cond.and given_1 narrow_1) := by decide +kernel
  obtain ⟨a, b, h1, h2⟩ := zg_lit htb hgv hA (own := "SableCrown$Reader") (idx := 308) (tx := "due") (n := 3) (bs := [100, 117, 101]) (by decide) (by decide +kernel) (by decide +kernel) (by decide +kernel) (by decide +kernel) (by decide +kernel) m6
  exact ⟨(a 0, b 0), fun _ => ⟨h1.1 0 (by decide), h2⟩⟩
theorem zg_lit_25 (htb : ∀ w ∈ lw_tbl, w.before args s = true) (hgv : (Jvm.Cond.and given_1 narrow_1).before args s = true) {A : Nat → Prop} (hA : ∀ a : Nat, a < s.heap.size → ¬ A a) : ∃ q : Nat × Nat, 25 < 46 → (va_O "java/lang/String" q.1 A s s.heap ∧ va_OF "java/lang/String" "coder" "B" (.int 0) q.1 A s s.heap ∧ va_OF "java/lang/String" "value" "[B" (.ref q.2) q.1 A s s.heap ∧ va_T .byte q.2 (zlb 25).length (fun j => .int ((zlb 25).getD j 0)) A s s.heap) ∧ vk_R (zLit.getD 25 ("", 0, "", 0)).1 (zLit.getD 25 ("", 0, "", 0)).2.1 (zLit.getD 25 ("", 0, "", 0)).2.2.1 q.1 s := by
  have m6 : ∀ j : Nat, j < 4 → (Cond.eq (.elem (.field (.string "SableCrown$Reader" 313) "java/lang/String" "value" "[B") (.int (Int32.ofNat j))) (.int (([121, 101, 97, 114] : List Int32).getD j 0))) ∈ flatC (Cond.and given_1 narrow_1) := by decide +kernel
  obtain ⟨a, b, h1, h2⟩ := zg_lit htb hgv hA (own := "SableCrown$Reader") (idx := 313) (tx := "year") (n := 4) (bs := [121, 101, 97, 114]) (by decide) (by decide +kernel) (by decide +kernel) (by decide +kernel) (by decide +kernel) (by decide +kernel) m6
  exact ⟨(a 0, b 0), fun _ => ⟨h1.1 0 (by decide), h2⟩⟩
theorem zg_lit_26 (htb : ∀ w ∈ lw_tbl, w.before args s = true) (hgv : (Jvm.Cond.and given_1 narrow_1).before args s = true) {A : Nat → Prop} (hA : ∀ a : Nat, a < s.heap.size → ¬ A a) : ∃ q : Nat × Nat, 26 < 46 → (va_O "java/lang/String" q.1 A s s.heap ∧ va_OF "java/lang/String" "coder" "B" (.int 0) q.1 A s s.heap ∧ va_OF "java/lang/String" "value" "[B" (.ref q.2) q.1 A s s.heap ∧ va_T .byte q.2 (zlb 26).length (fun j => .int ((zlb 26).getD j 0)) A s s.heap) ∧ vk_R (zLit.getD 26 ("", 0, "", 0)).1 (zLit.getD 26 ("", 0, "", 0)).2.1 (zLit.getD 26 ("", 0, "", 0)).2.2.1 q.1 s := by
  have m6 : ∀ j : Nat, j < 5 → (Cond.eq (.elem (.field (.string "SableCrown$Reader" 318) "java/lang/String" "value" "[B") (.int (Int32.ofNat j))) (.int (([115, 116, 111, 114, 101] : List Int32).getD j 0))) ∈ flatC (Cond.and given_1 narrow_1) := by decide +kernel
  obtain ⟨a, b, h1, h2⟩ := zg_lit htb hgv hA (own := "SableCrown$Reader") (idx := 318) (tx := "store") (n := 5) (bs := [115, 116, 111, 114, 101]) (by decide) (by decide +kernel) (by decide +kernel) (by decide +kernel) (by decide +kernel) (by decide +kernel) m6
  exact ⟨(a 0, b 0), fun _ => ⟨h1.1 0 (by decide), h2⟩⟩
theorem zg_lit_27 (htb : ∀ w ∈ lw_tbl, w.before args s = true) (hgv : (Jvm.Cond.and given_1 narrow_1).before args s = true) {A : Nat → Prop} (hA : ∀ a : Nat, a < s.heap.size → ¬ A a) : ∃ q : Nat × Nat, 27 < 46 → (va_O "java/lang/String" q.1 A s s.heap ∧ va_OF "java/lang/String" "coder" "B" (.int 0) q.1 A s s.heap ∧ va_OF "java/lang/String" "value" "[B" (.ref q.2) q.1 A s s.heap ∧ va_T .byte q.2 (zlb 27).length (fun j => .int ((zlb 27).getD j 0)) A s s.heap) ∧ vk_R (zLit.getD 27 ("", 0, "", 0)).1 (zLit.getD 27 ("", 0, "", 0)).2.1 (zLit.getD 27 ("", 0, "", 0)).2.2.1 q.1 s := by
  have m6 : ∀ j : Nat, j < 6 → (Cond.eq (.elem (.field (.string "SableCrown$Reader" 323) "java/lang/String" "value" "[B") (.int (Int32.ofNat j))) (.int (([111, 116, 104, 101, 114, 115] : List Int32).getD j 0))) ∈ flatC (Cond.and given_1 narrow_1) := by decide +kernel
  obtain ⟨a, b, h1, h2⟩ := zg_lit htb hgv hA (own := "SableCrown$Reader") (idx := 323) (tx := "others") (n := 6) (bs := [111, 116, 104, 101, 114, 115]) (by decide) (by decide +kernel) (by decide +kernel) (by decide +kernel) (by decide +kernel) (by decide +kernel) m6
  exact ⟨(a 0, b 0), fun _ => ⟨h1.1 0 (by decide), h2⟩⟩
theorem zg_lit_28 (htb : ∀ w ∈ lw_tbl, w.before args s = true) (hgv : (Jvm.Cond.and given_1 narrow_1).before args s = true) {A : Nat → Prop} (hA : ∀ a : Nat, a < s.heap.size → ¬ A a) : ∃ q : Nat × Nat, 28 < 46 → (va_O "java/lang/String" q.1 A s s.heap ∧ va_OF "java/lang/String" "coder" "B" (.int 0) q.1 A s s.heap ∧ va_OF "java/lang/String" "value" "[B" (.ref q.2) q.1 A s s.heap ∧ va_T .byte q.2 (zlb 28).length (fun j => .int ((zlb 28).getD j 0)) A s s.heap) ∧ vk_R (zLit.getD 28 ("", 0, "", 0)).1 (zLit.getD 28 ("", 0, "", 0)).2.1 (zLit.getD 28 ("", 0, "", 0)).2.2.1 q.1 s := by
  have m6 : ∀ j : Nat, j < 4 → (Cond.eq (.elem (.field (.string "SableCrownModel" 11) "java/lang/String" "value" "[B") (.int (Int32.ofNat j))) (.int (([98, 111, 119, 115] : List Int32).getD j 0))) ∈ flatC (Cond.and given_1 narrow_1) := by decide +kernel
  obtain ⟨a, b, h1, h2⟩ := zg_lit htb hgv hA (own := "SableCrownModel") (idx := 11) (tx := "bows") (n := 4) (bs := [98, 111, 119, 115]) (by decide) (by decide +kernel) (by decide +kernel) (by decide +kernel) (by decide +kernel) (by decide +kernel) m6
  exact ⟨(a 0, b 0), fun _ => ⟨h1.1 0 (by decide), h2⟩⟩
theorem zg_lit_29 (htb : ∀ w ∈ lw_tbl, w.before args s = true) (hgv : (Jvm.Cond.and given_1 narrow_1).before args s = true) {A : Nat → Prop} (hA : ∀ a : Nat, a < s.heap.size → ¬ A a) : ∃ q : Nat × Nat, 29 < 46 → (va_O "java/lang/String" q.1 A s s.heap ∧ va_OF "java/lang/String" "coder" "B" (.int 0) q.1 A s s.heap ∧ va_OF "java/lang/String" "value" "[B" (.ref q.2) q.1 A s s.heap ∧ va_T .byte q.2 (zlb 29).length (fun j => .int ((zlb 29).getD j 0)) A s s.heap) ∧ vk_R (zLit.getD 29 ("", 0, "", 0)).1 (zLit.getD 29 ("", 0, "", 0)).2.1 (zLit.getD 29 ("", 0, "", 0)).2.2.1 q.1 s := by
  have m6 : ∀ j : Nat, j < 6 → (Cond.eq (.elem (.field (.string "SableCrownModel" 13) "java/lang/String" "value" "[B") (.int (Int32.ofNat j))) (.int (([115, 97, 98, 108, 101, 115] : List Int32).getD j 0))) ∈ flatC (Cond.and given_1 narrow_1) := by decide +kernel
  obtain ⟨a, b, h1, h2⟩ := zg_lit htb hgv hA (own := "SableCrownModel") (idx := 13) (tx := "sables") (n := 6) (bs := [115, 97, 98, 108, 101, 115]) (by decide) (by decide +kernel) (by decide +kernel) (by decide +kernel) (by decide +kernel) (by decide +kernel) m6
  exact ⟨(a 0, b 0), fun _ => ⟨h1.1 0 (by decide), h2⟩⟩
theorem zg_lit_30 (htb : ∀ w ∈ lw_tbl, w.before args s = true) (hgv : (Jvm.Cond.and given_1 narrow_1).before args s = true) {A : Nat → Prop} (hA : ∀ a : Nat, a < s.heap.size → ¬ A a) : ∃ q : Nat × Nat, 30 < 46 → (va_O "java/lang/String" q.1 A s s.heap ∧ va_OF "java/lang/String" "coder" "B" (.int 0) q.1 A s s.heap ∧ va_OF "java/lang/String" "value" "[B" (.ref q.2) q.1 A s s.heap ∧ va_T .byte q.2 (zlb 30).length (fun j => .int ((zlb 30).getD j 0)) A s s.heap) ∧ vk_R (zLit.getD 30 ("", 0, "", 0)).1 (zLit.getD 30 ("", 0, "", 0)).2.1 (zLit.getD 30 ("", 0, "", 0)).2.2.1 q.1 s := by
  have m6 : ∀ j : Nat, j < 4 → (Cond.eq (.elem (.field (.string "SableCrownModel" 15) "java/lang/String" "value" "[B") (.int (Int32.ofNat j))) (.int (([111, 119, 101, 115] : List Int32).getD j 0))) ∈ flatC (Cond.and given_1 narrow_1) := by decide +kernel
  obtain ⟨a, b, h1, h2⟩ := zg_lit htb hgv hA (own := "SableCrownModel") (idx := 15) (tx := "owes") (n := 4) (bs := [111, 119, 101, 115]) (by decide) (by decide +kernel) (by decide +kernel) (by decide +kernel) (by decide +kernel) (by decide +kernel) m6
  exact ⟨(a 0, b 0), fun _ => ⟨h1.1 0 (by decide), h2⟩⟩
theorem zg_lit_31 (htb : ∀ w ∈ lw_tbl, w.before args s = true) (hgv : (Jvm.Cond.and given_1 narrow_1).before args s = true) {A : Nat → Prop} (hA : ∀ a : Nat, a < s.heap.size → ¬ A a) : ∃ q : Nat × Nat, 31 < 46 → (va_O "java/lang/String" q.1 A s s.heap ∧ va_OF "java/lang/String" "coder" "B" (.int 0) q.1 A s s.heap ∧ va_OF "java/lang/String" "value" "[B" (.ref q.2) q.1 A s s.heap ∧ va_T .byte q.2 (zlb 31).length (fun j => .int ((zlb 31).getD j 0)) A s s.heap) ∧ vk_R (zLit.getD 31 ("", 0, "", 0)).1 (zLit.getD 31 ("", 0, "", 0)).2.1 (zLit.getD 31 ("", 0, "", 0)).2.2.1 q.1 s := by
  have m6 : ∀ j : Nat, j < 3 → (Cond.eq (.elem (.field (.string "SableCrownModel" 17) "java/lang/String" "value" "[B") (.int (Int32.ofNat j))) (.int (([100, 117, 101] : List Int32).getD j 0))) ∈ flatC (Cond.and given_1 narrow_1) := by decide +kernel
  obtain ⟨a, b, h1, h2⟩ := zg_lit htb hgv hA (own := "SableCrownModel") (idx := 17) (tx := "due") (n := 3) (bs := [100, 117, 101]) (by decide) (by decide +kernel) (by decide +kernel) (by decide +kernel) (by decide +kernel) (by decide +kernel) m6
  exact ⟨(a 0, b 0), fun _ => ⟨h1.1 0 (by decide), h2⟩⟩
theorem zg_lit_32 (htb : ∀ w ∈ lw_tbl, w.before args s = true) (hgv : (Jvm.Cond.and given_1 narrow_1).before args s = true) {A : Nat → Prop} (hA : ∀ a : Nat, a < s.heap.size → ¬ A a) : ∃ q : Nat × Nat, 32 < 46 → (va_O "java/lang/String" q.1 A s s.heap ∧ va_OF "java/lang/String" "coder" "B" (.int 0) q.1 A s s.heap ∧ va_OF "java/lang/String" "value" "[B" (.ref q.2) q.1 A s s.heap ∧ va_T .byte q.2 (zlb 32).length (fun j => .int ((zlb 32).getD j 0)) A s s.heap) ∧ vk_R (zLit.getD 32 ("", 0, "", 0)).1 (zLit.getD 32 ("", 0, "", 0)).2.1 (zLit.getD 32 ("", 0, "", 0)).2.2.1 q.1 s := by
  have m6 : ∀ j : Nat, j < 4 → (Cond.eq (.elem (.field (.string "SableCrownModel" 19) "java/lang/String" "value" "[B") (.int (Int32.ofNat j))) (.int (([121, 101, 97, 114] : List Int32).getD j 0))) ∈ flatC (Cond.and given_1 narrow_1) := by decide +kernel
  obtain ⟨a, b, h1, h2⟩ := zg_lit htb hgv hA (own := "SableCrownModel") (idx := 19) (tx := "year") (n := 4) (bs := [121, 101, 97, 114]) (by decide) (by decide +kernel) (by decide +kernel) (by decide +kernel) (by decide +kernel) (by decide +kernel) m6
  exact ⟨(a 0, b 0), fun _ => ⟨h1.1 0 (by decide), h2⟩⟩
theorem zg_lit_33 (htb : ∀ w ∈ lw_tbl, w.before args s = true) (hgv : (Jvm.Cond.and given_1 narrow_1).before args s = true) {A : Nat → Prop} (hA : ∀ a : Nat, a < s.heap.size → ¬ A a) : ∃ q : Nat × Nat, 33 < 46 → (va_O "java/lang/String" q.1 A s s.heap ∧ va_OF "java/lang/String" "coder" "B" (.int 0) q.1 A s s.heap ∧ va_OF "java/lang/String" "value" "[B" (.ref q.2) q.1 A s s.heap ∧ va_T .byte q.2 (zlb 33).length (fun j => .int ((zlb 33).getD j 0)) A s s.heap) ∧ vk_R (zLit.getD 33 ("", 0, "", 0)).1 (zLit.getD 33 ("", 0, "", 0)).2.1 (zLit.getD 33 ("", 0, "", 0)).2.2.1 q.1 s := by
  have m6 : ∀ j : Nat, j < 5 → (Cond.eq (.elem (.field (.string "SableCrownModel" 21) "java/lang/String" "value" "[B") (.int (Int32.ofNat j))) (.int (([115, 116, 111, 114, 101] : List Int32).getD j 0))) ∈ flatC (Cond.and given_1 narrow_1) := by decide +kernel
  obtain ⟨a, b, h1, h2⟩ := zg_lit htb hgv hA (own := "SableCrownModel") (idx := 21) (tx := "store") (n := 5) (bs := [115, 116, 111, 114, 101]) (by decide) (by decide +kernel) (by decide +kernel) (by decide +kernel) (by decide +kernel) (by decide +kernel) m6
  exact ⟨(a 0, b 0), fun _ => ⟨h1.1 0 (by decide), h2⟩⟩
theorem zg_lit_34 (htb : ∀ w ∈ lw_tbl, w.before args s = true) (hgv : (Jvm.Cond.and given_1 narrow_1).before args s = true) {A : Nat → Prop} (hA : ∀ a : Nat, a < s.heap.size → ¬ A a) : ∃ q : Nat × Nat, 34 < 46 → (va_O "java/lang/String" q.1 A s s.heap ∧ va_OF "java/lang/String" "coder" "B" (.int 0) q.1 A s s.heap ∧ va_OF "java/lang/String" "value" "[B" (.ref q.2) q.1 A s s.heap ∧ va_T .byte q.2 (zlb 34).length (fun j => .int ((zlb 34).getD j 0)) A s s.heap) ∧ vk_R (zLit.getD 34 ("", 0, "", 0)).1 (zLit.getD 34 ("", 0, "", 0)).2.1 (zLit.getD 34 ("", 0, "", 0)).2.2.1 q.1 s := by
  have m6 : ∀ j : Nat, j < 6 → (Cond.eq (.elem (.field (.string "SableCrownModel" 23) "java/lang/String" "value" "[B") (.int (Int32.ofNat j))) (.int (([111, 116, 104, 101, 114, 115] : List Int32).getD j 0))) ∈ flatC (Cond.and given_1 narrow_1) := by decide +kernel
  obtain ⟨a, b, h1, h2⟩ := zg_lit htb hgv hA (own := "SableCrownModel") (idx := 23) (tx := "others") (n := 6) (bs := [111, 116, 104, 101, 114, 115]) (by decide) (by decide +kernel) (by decide +kernel) (by decide +kernel) (by decide +kernel) (by decide +kernel) m6
  exact ⟨(a 0, b 0), fun _ => ⟨h1.1 0 (by decide), h2⟩⟩
theorem zg_lit_35 (htb : ∀ w ∈ lw_tbl, w.before args s = true) (hgv : (Jvm.Cond.and given_1 narrow_1).before args s = true) {A : Nat → Prop} (hA : ∀ a : Nat, a < s.heap.size → ¬ A a) : ∃ q : Nat × Nat, 35 < 46 → (va_O "java/lang/String" q.1 A s s.heap ∧ va_OF "java/lang/String" "coder" "B" (.int 0) q.1 A s s.heap ∧ va_OF "java/lang/String" "value" "[B" (.ref q.2) q.1 A s s.heap ∧ va_T .byte q.2 (zlb 35).length (fun j => .int ((zlb 35).getD j 0)) A s s.heap) ∧ vk_R (zLit.getD 35 ("", 0, "", 0)).1 (zLit.getD 35 ("", 0, "", 0)).2.1 (zLit.getD 35 ("", 0, "", 0)).2.2.1 q.1 s := by
  have m6 : ∀ j : Nat, j < 3 → (Cond.eq (.elem (.field (.string "SableCrownModel" 255) "java/lang/String" "value" "[B") (.int (Int32.ofNat j))) (.int (([110, 111, 116] : List Int32).getD j 0))) ∈ flatC (Cond.and given_1 narrow_1) := by decide +kernel
  obtain ⟨a, b, h1, h2⟩ := zg_lit htb hgv hA (own := "SableCrownModel") (idx := 255) (tx := "not") (n := 3) (bs := [110, 111, 116]) (by decide) (by decide +kernel) (by decide +kernel) (by decide +kernel) (by decide +kernel) (by decide +kernel) m6
  exact ⟨(a 0, b 0), fun _ => ⟨h1.1 0 (by decide), h2⟩⟩
theorem zg_lit_36 (htb : ∀ w ∈ lw_tbl, w.before args s = true) (hgv : (Jvm.Cond.and given_1 narrow_1).before args s = true) {A : Nat → Prop} (hA : ∀ a : Nat, a < s.heap.size → ¬ A a) : ∃ q : Nat × Nat, 36 < 46 → (va_O "java/lang/String" q.1 A s s.heap ∧ va_OF "java/lang/String" "coder" "B" (.int 0) q.1 A s s.heap ∧ va_OF "java/lang/String" "value" "[B" (.ref q.2) q.1 A s s.heap ∧ va_T .byte q.2 (zlb 36).length (fun j => .int ((zlb 36).getD j 0)) A s s.heap) ∧ vk_R (zLit.getD 36 ("", 0, "", 0)).1 (zLit.getD 36 ("", 0, "", 0)).2.1 (zLit.getD 36 ("", 0, "", 0)).2.2.1 q.1 s := by
  have m6 : ∀ j : Nat, j < 3 → (Cond.eq (.elem (.field (.string "SableCrownModel" 263) "java/lang/String" "value" "[B") (.int (Int32.ofNat j))) (.int (([97, 110, 100] : List Int32).getD j 0))) ∈ flatC (Cond.and given_1 narrow_1) := by decide +kernel
  obtain ⟨a, b, h1, h2⟩ := zg_lit htb hgv hA (own := "SableCrownModel") (idx := 263) (tx := "and") (n := 3) (bs := [97, 110, 100]) (by decide) (by decide +kernel) (by decide +kernel) (by decide +kernel) (by decide +kernel) (by decide +kernel) m6
  exact ⟨(a 0, b 0), fun _ => ⟨h1.1 0 (by decide), h2⟩⟩
theorem zg_lit_37 (htb : ∀ w ∈ lw_tbl, w.before args s = true) (hgv : (Jvm.Cond.and given_1 narrow_1).before args s = true) {A : Nat → Prop} (hA : ∀ a : Nat, a < s.heap.size → ¬ A a) : ∃ q : Nat × Nat, 37 < 46 → (va_O "java/lang/String" q.1 A s s.heap ∧ va_OF "java/lang/String" "coder" "B" (.int 0) q.1 A s s.heap ∧ va_OF "java/lang/String" "value" "[B" (.ref q.2) q.1 A s s.heap ∧ va_T .byte q.2 (zlb 37).length (fun j => .int ((zlb 37).getD j 0)) A s s.heap) ∧ vk_R (zLit.getD 37 ("", 0, "", 0)).1 (zLit.getD 37 ("", 0, "", 0)).2.1 (zLit.getD 37 ("", 0, "", 0)).2.2.1 q.1 s := by
  have m6 : ∀ j : Nat, j < 2 → (Cond.eq (.elem (.field (.string "SableCrownModel" 268) "java/lang/String" "value" "[B") (.int (Int32.ofNat j))) (.int (([111, 114] : List Int32).getD j 0))) ∈ flatC (Cond.and given_1 narrow_1) := by decide +kernel
  obtain ⟨a, b, h1, h2⟩ := zg_lit htb hgv hA (own := "SableCrownModel") (idx := 268) (tx := "or") (n := 2) (bs := [111, 114]) (by decide) (by decide +kernel) (by decide +kernel) (by decide +kernel) (by decide +kernel) (by decide +kernel) m6
  exact ⟨(a 0, b 0), fun _ => ⟨h1.1 0 (by decide), h2⟩⟩
theorem zg_lit_38 (htb : ∀ w ∈ lw_tbl, w.before args s = true) (hgv : (Jvm.Cond.and given_1 narrow_1).before args s = true) {A : Nat → Prop} (hA : ∀ a : Nat, a < s.heap.size → ¬ A a) : ∃ q : Nat × Nat, 38 < 46 → (va_O "java/lang/String" q.1 A s s.heap ∧ va_OF "java/lang/String" "coder" "B" (.int 0) q.1 A s s.heap ∧ va_OF "java/lang/String" "value" "[B" (.ref q.2) q.1 A s s.heap ∧ va_T .byte q.2 (zlb 38).length (fun j => .int ((zlb 38).getD j 0)) A s s.heap) ∧ vk_R (zLit.getD 38 ("", 0, "", 0)).1 (zLit.getD 38 ("", 0, "", 0)).2.1 (zLit.getD 38 ("", 0, "", 0)).2.2.1 q.1 s := by
  have m6 : ∀ j : Nat, j < 3 → (Cond.eq (.elem (.field (.string "SableCrownModel" 277) "java/lang/String" "value" "[B") (.int (Int32.ofNat j))) (.int (([116, 97, 120] : List Int32).getD j 0))) ∈ flatC (Cond.and given_1 narrow_1) := by decide +kernel
  obtain ⟨a, b, h1, h2⟩ := zg_lit htb hgv hA (own := "SableCrownModel") (idx := 277) (tx := "tax") (n := 3) (bs := [116, 97, 120]) (by decide) (by decide +kernel) (by decide +kernel) (by decide +kernel) (by decide +kernel) (by decide +kernel) m6
  exact ⟨(a 0, b 0), fun _ => ⟨h1.1 0 (by decide), h2⟩⟩
theorem zg_lit_39 (htb : ∀ w ∈ lw_tbl, w.before args s = true) (hgv : (Jvm.Cond.and given_1 narrow_1).before args s = true) {A : Nat → Prop} (hA : ∀ a : Nat, a < s.heap.size → ¬ A a) : ∃ q : Nat × Nat, 39 < 46 → (va_O "java/lang/String" q.1 A s s.heap ∧ va_OF "java/lang/String" "coder" "B" (.int 0) q.1 A s s.heap ∧ va_OF "java/lang/String" "value" "[B" (.ref q.2) q.1 A s s.heap ∧ va_T .byte q.2 (zlb 39).length (fun j => .int ((zlb 39).getD j 0)) A s s.heap) ∧ vk_R (zLit.getD 39 ("", 0, "", 0)).1 (zLit.getD 39 ("", 0, "", 0)).2.1 (zLit.getD 39 ("", 0, "", 0)).2.2.1 q.1 s := by
  have m6 : ∀ j : Nat, j < 3 → (Cond.eq (.elem (.field (.string "SableCrownModel" 279) "java/lang/String" "value" "[B") (.int (Int32.ofNat j))) (.int (([102, 111, 120] : List Int32).getD j 0))) ∈ flatC (Cond.and given_1 narrow_1) := by decide +kernel
  obtain ⟨a, b, h1, h2⟩ := zg_lit htb hgv hA (own := "SableCrownModel") (idx := 279) (tx := "fox") (n := 3) (bs := [102, 111, 120]) (by decide) (by decide +kernel) (by decide +kernel) (by decide +kernel) (by decide +kernel) (by decide +kernel) m6
  exact ⟨(a 0, b 0), fun _ => ⟨h1.1 0 (by decide), h2⟩⟩
theorem zg_lit_40 (htb : ∀ w ∈ lw_tbl, w.before args s = true) (hgv : (Jvm.Cond.and given_1 narrow_1).before args s = true) {A : Nat → Prop} (hA : ∀ a : Nat, a < s.heap.size → ¬ A a) : ∃ q : Nat × Nat, 40 < 46 → (va_O "java/lang/String" q.1 A s s.heap ∧ va_OF "java/lang/String" "coder" "B" (.int 0) q.1 A s s.heap ∧ va_OF "java/lang/String" "value" "[B" (.ref q.2) q.1 A s s.heap ∧ va_T .byte q.2 (zlb 40).length (fun j => .int ((zlb 40).getD j 0)) A s s.heap) ∧ vk_R (zLit.getD 40 ("", 0, "", 0)).1 (zLit.getD 40 ("", 0, "", 0)).2.1 (zLit.getD 40 ("", 0, "", 0)).2.2.1 q.1 s := by
  have m6 : ∀ j : Nat, j < 5 → (Cond.eq (.elem (.field (.string "SableCrownModel" 281) "java/lang/String" "value" "[B") (.int (Int32.ofNat j))) (.int (([108, 105, 109, 105, 116] : List Int32).getD j 0))) ∈ flatC (Cond.and given_1 narrow_1) := by decide +kernel
  obtain ⟨a, b, h1, h2⟩ := zg_lit htb hgv hA (own := "SableCrownModel") (idx := 281) (tx := "limit") (n := 5) (bs := [108, 105, 109, 105, 116]) (by decide) (by decide +kernel) (by decide +kernel) (by decide +kernel) (by decide +kernel) (by decide +kernel) m6
  exact ⟨(a 0, b 0), fun _ => ⟨h1.1 0 (by decide), h2⟩⟩
theorem zg_lit_41 (htb : ∀ w ∈ lw_tbl, w.before args s = true) (hgv : (Jvm.Cond.and given_1 narrow_1).before args s = true) {A : Nat → Prop} (hA : ∀ a : Nat, a < s.heap.size → ¬ A a) : ∃ q : Nat × Nat, 41 < 46 → (va_O "java/lang/String" q.1 A s s.heap ∧ va_OF "java/lang/String" "coder" "B" (.int 0) q.1 A s s.heap ∧ va_OF "java/lang/String" "value" "[B" (.ref q.2) q.1 A s s.heap ∧ va_T .byte q.2 (zlb 41).length (fun j => .int ((zlb 41).getD j 0)) A s s.heap) ∧ vk_R (zLit.getD 41 ("", 0, "", 0)).1 (zLit.getD 41 ("", 0, "", 0)).2.1 (zLit.getD 41 ("", 0, "", 0)).2.2.1 q.1 s := by
  have m6 : ∀ j : Nat, j < 5 → (Cond.eq (.elem (.field (.string "SableCrownModel" 283) "java/lang/String" "value" "[B") (.int (Int32.ofNat j))) (.int (([104, 117, 110, 116, 115] : List Int32).getD j 0))) ∈ flatC (Cond.and given_1 narrow_1) := by decide +kernel
  obtain ⟨a, b, h1, h2⟩ := zg_lit htb hgv hA (own := "SableCrownModel") (idx := 283) (tx := "hunts") (n := 5) (bs := [104, 117, 110, 116, 115]) (by decide) (by decide +kernel) (by decide +kernel) (by decide +kernel) (by decide +kernel) (by decide +kernel) m6
  exact ⟨(a 0, b 0), fun _ => ⟨h1.1 0 (by decide), h2⟩⟩
theorem zg_lit_42 (htb : ∀ w ∈ lw_tbl, w.before args s = true) (hgv : (Jvm.Cond.and given_1 narrow_1).before args s = true) {A : Nat → Prop} (hA : ∀ a : Nat, a < s.heap.size → ¬ A a) : ∃ q : Nat × Nat, 42 < 46 → (va_O "java/lang/String" q.1 A s s.heap ∧ va_OF "java/lang/String" "coder" "B" (.int 0) q.1 A s s.heap ∧ va_OF "java/lang/String" "value" "[B" (.ref q.2) q.1 A s s.heap ∧ va_T .byte q.2 (zlb 42).length (fun j => .int ((zlb 42).getD j 0)) A s s.heap) ∧ vk_R (zLit.getD 42 ("", 0, "", 0)).1 (zLit.getD 42 ("", 0, "", 0)).2.1 (zLit.getD 42 ("", 0, "", 0)).2.2.1 q.1 s := by
  have m6 : ∀ j : Nat, j < 6 → (Cond.eq (.elem (.field (.string "SableCrownModel" 285) "java/lang/String" "value" "[B") (.int (Int32.ofNat j))) (.int (([102, 111, 114, 101, 115, 116] : List Int32).getD j 0))) ∈ flatC (Cond.and given_1 narrow_1) := by decide +kernel
  obtain ⟨a, b, h1, h2⟩ := zg_lit htb hgv hA (own := "SableCrownModel") (idx := 285) (tx := "forest") (n := 6) (bs := [102, 111, 114, 101, 115, 116]) (by decide) (by decide +kernel) (by decide +kernel) (by decide +kernel) (by decide +kernel) (by decide +kernel) m6
  exact ⟨(a 0, b 0), fun _ => ⟨h1.1 0 (by decide), h2⟩⟩
theorem zg_lit_43 (htb : ∀ w ∈ lw_tbl, w.before args s = true) (hgv : (Jvm.Cond.and given_1 narrow_1).before args s = true) {A : Nat → Prop} (hA : ∀ a : Nat, a < s.heap.size → ¬ A a) : ∃ q : Nat × Nat, 43 < 46 → (va_O "java/lang/String" q.1 A s s.heap ∧ va_OF "java/lang/String" "coder" "B" (.int 0) q.1 A s s.heap ∧ va_OF "java/lang/String" "value" "[B" (.ref q.2) q.1 A s s.heap ∧ va_T .byte q.2 (zlb 43).length (fun j => .int ((zlb 43).getD j 0)) A s s.heap) ∧ vk_R (zLit.getD 43 ("", 0, "", 0)).1 (zLit.getD 43 ("", 0, "", 0)).2.1 (zLit.getD 43 ("", 0, "", 0)).2.2.1 q.1 s := by
  have m6 : ∀ j : Nat, j < 5 → (Cond.eq (.elem (.field (.string "SableCrownModel" 290) "java/lang/String" "value" "[B") (.int (Int32.ofNat j))) (.int (([114, 105, 118, 101, 114] : List Int32).getD j 0))) ∈ flatC (Cond.and given_1 narrow_1) := by decide +kernel
  obtain ⟨a, b, h1, h2⟩ := zg_lit htb hgv hA (own := "SableCrownModel") (idx := 290) (tx := "river") (n := 5) (bs := [114, 105, 118, 101, 114]) (by decide) (by decide +kernel) (by decide +kernel) (by decide +kernel) (by decide +kernel) (by decide +kernel) m6
  exact ⟨(a 0, b 0), fun _ => ⟨h1.1 0 (by decide), h2⟩⟩
theorem zg_lit_44 (htb : ∀ w ∈ lw_tbl, w.before args s = true) (hgv : (Jvm.Cond.and given_1 narrow_1).before args s = true) {A : Nat → Prop} (hA : ∀ a : Nat, a < s.heap.size → ¬ A a) : ∃ q : Nat × Nat, 44 < 46 → (va_O "java/lang/String" q.1 A s s.heap ∧ va_OF "java/lang/String" "coder" "B" (.int 0) q.1 A s s.heap ∧ va_OF "java/lang/String" "value" "[B" (.ref q.2) q.1 A s s.heap ∧ va_T .byte q.2 (zlb 44).length (fun j => .int ((zlb 44).getD j 0)) A s s.heap) ∧ vk_R (zLit.getD 44 ("", 0, "", 0)).1 (zLit.getD 44 ("", 0, "", 0)).2.1 (zLit.getD 44 ("", 0, "", 0)).2.2.1 q.1 s := by
  have m6 : ∀ j : Nat, j < 4 → (Cond.eq (.elem (.field (.string "SableCrownModel" 294) "java/lang/String" "value" "[B") (.int (Int32.ofNat j))) (.int (([98, 97, 110, 100] : List Int32).getD j 0))) ∈ flatC (Cond.and given_1 narrow_1) := by decide +kernel
  obtain ⟨a, b, h1, h2⟩ := zg_lit htb hgv hA (own := "SableCrownModel") (idx := 294) (tx := "band") (n := 4) (bs := [98, 97, 110, 100]) (by decide) (by decide +kernel) (by decide +kernel) (by decide +kernel) (by decide +kernel) (by decide +kernel) m6
  exact ⟨(a 0, b 0), fun _ => ⟨h1.1 0 (by decide), h2⟩⟩
theorem zg_lit_45 (htb : ∀ w ∈ lw_tbl, w.before args s = true) (hgv : (Jvm.Cond.and given_1 narrow_1).before args s = true) {A : Nat → Prop} (hA : ∀ a : Nat, a < s.heap.size → ¬ A a) : ∃ q : Nat × Nat, 45 < 46 → (va_O "java/lang/String" q.1 A s s.heap ∧ va_OF "java/lang/String" "coder" "B" (.int 0) q.1 A s s.heap ∧ va_OF "java/lang/String" "value" "[B" (.ref q.2) q.1 A s s.heap ∧ va_T .byte q.2 (zlb 45).length (fun j => .int ((zlb 45).getD j 0)) A s s.heap) ∧ vk_R (zLit.getD 45 ("", 0, "", 0)).1 (zLit.getD 45 ("", 0, "", 0)).2.1 (zLit.getD 45 ("", 0, "", 0)).2.2.1 q.1 s := by
  have m6 : ∀ j : Nat, j < 4 → (Cond.eq (.elem (.field (.string "SableCrownModel" 299) "java/lang/String" "value" "[B") (.int (Int32.ofNat j))) (.int (([102, 111, 114, 116] : List Int32).getD j 0))) ∈ flatC (Cond.and given_1 narrow_1) := by decide +kernel
  obtain ⟨a, b, h1, h2⟩ := zg_lit htb hgv hA (own := "SableCrownModel") (idx := 299) (tx := "fort") (n := 4) (bs := [102, 111, 114, 116]) (by decide) (by decide +kernel) (by decide +kernel) (by decide +kernel) (by decide +kernel) (by decide +kernel) m6
  exact ⟨(a 0, b 0), fun _ => ⟨h1.1 0 (by decide), h2⟩⟩
theorem zg_lits (htb : ∀ w ∈ lw_tbl, w.before args s = true) (hgv : (Jvm.Cond.and given_1 narrow_1).before args s = true) {A : Nat → Prop} (hA : ∀ a : Nat, a < s.heap.size → ¬ A a) : ∃ g : Nat → Nat × Nat, ∀ i, i < 46 → (va_O "java/lang/String" (g i).1 A s s.heap ∧ va_OF "java/lang/String" "coder" "B" (.int 0) (g i).1 A s s.heap ∧ va_OF "java/lang/String" "value" "[B" (.ref (g i).2) (g i).1 A s s.heap ∧ va_T .byte (g i).2 (zlb i).length (fun j => .int ((zlb i).getD j 0)) A s s.heap) ∧ vk_R (zLit.getD i ("", 0, "", 0)).1 (zLit.getD i ("", 0, "", 0)).2.1 (zLit.getD i ("", 0, "", 0)).2.2.1 (g i).1 s := by
  have key : ∀ i : Nat, ∃ q : Nat × Nat, i < 46 → (va_O "java/lang/String" q.1 A s s.heap ∧ va_OF "java/lang/String" "coder" "B" (.int 0) q.1 A s s.heap ∧ va_OF "java/lang/String" "value" "[B" (.ref q.2) q.1 A s s.heap ∧ va_T .byte q.2 (zlb i).length (fun j => .int ((zlb i).getD j 0)) A s s.heap) ∧ vk_R (zLit.getD i ("", 0, "", 0)).1 (zLit.getD i ("", 0, "", 0)).2.1 (zLit.getD i ("", 0, "", 0)).2.2.1 q.1 s := by
    intro i
    by_cases hi : i < 46
    · match i, hi with
      | 0, _ => exact zg_lit_0 htb hgv hA
      | 1, _ => exact zg_lit_1 htb hgv hA
      | 2, _ => exact zg_lit_2 htb hgv hA
      | 3, _ => exact zg_lit_3 htb hgv hA
      | 4, _ => exact zg_lit_4 htb hgv hA
      | 5, _ => exact zg_lit_5 htb hgv hA
      | 6, _ => exact zg_lit_6 htb hgv hA
      | 7, _ => exact zg_lit_7 htb hgv hA
      | 8, _ => exact zg_lit_8 htb hgv hA
      | 9, _ => exact zg_lit_9 htb hgv hA
      | 10, _ => exact zg_lit_10 htb hgv hA
      | 11, _ => exact zg_lit_11 htb hgv hA
      | 12, _ => exact zg_lit_12 htb hgv hA
      | 13, _ => exact zg_lit_13 htb hgv hA
      | 14, _ => exact zg_lit_14 htb hgv hA
      | 15, _ => exact zg_lit_15 htb hgv hA
      | 16, _ => exact zg_lit_16 htb hgv hA
      | 17, _ => exact zg_lit_17 htb hgv hA
      | 18, _ => exact zg_lit_18 htb hgv hA
      | 19, _ => exact zg_lit_19 htb hgv hA
      | 20, _ => exact zg_lit_20 htb hgv hA
      | 21, _ => exact zg_lit_21 htb hgv hA
      | 22, _ => exact zg_lit_22 htb hgv hA
      | 23, _ => exact zg_lit_23 htb hgv hA
      | 24, _ => exact zg_lit_24 htb hgv hA
      | 25, _ => exact zg_lit_25 htb hgv hA
      | 26, _ => exact zg_lit_26 htb hgv hA
      | 27, _ => exact zg_lit_27 htb hgv hA
      | 28, _ => exact zg_lit_28 htb hgv hA
      | 29, _ => exact zg_lit_29 htb hgv hA
      | 30, _ => exact zg_lit_30 htb hgv hA
      | 31, _ => exact zg_lit_31 htb hgv hA
      | 32, _ => exact zg_lit_32 htb hgv hA
      | 33, _ => exact zg_lit_33 htb hgv hA
      | 34, _ => exact zg_lit_34 htb hgv hA
      | 35, _ => exact zg_lit_35 htb hgv hA
      | 36, _ => exact zg_lit_36 htb hgv hA
      | 37, _ => exact zg_lit_37 htb hgv hA
      | 38, _ => exact zg_lit_38 htb hgv hA
      | 39, _ => exact zg_lit_39 htb hgv hA
      | 40, _ => exact zg_lit_40 htb hgv hA
      | 41, _ => exact zg_lit_41 htb hgv hA
      | 42, _ => exact zg_lit_42 htb hgv hA
      | 43, _ => exact zg_lit_43 htb hgv hA
      | 44, _ => exact zg_lit_44 htb hgv hA
      | 45, _ => exact zg_lit_45 htb hgv hA
      | i + 46, h => exact absurd h (by omega)
    · exact ⟨(0, 0), fun h => absurd h hi⟩
  exact ⟨fun i => Classical.choose (key i), fun i => Classical.choose_spec (key i)⟩
theorem zg_nul {C n d : String} (hl : (Cond.laysStatic C n d).before args s = true) (hini : (Cond.initialized C).before args s = true) (h : (Cond.isRef (.static C n d)).before args s = true) {A : Nat → Prop} (hA : ∀ a : Nat, a < s.heap.size → ¬ A a) : ∃ r : Option Nat, va_Z C n d (va_rf r) A s s.heap := by
  obtain ⟨v, hv, hr⟩ := Cond.isRef_spec (args := args) (first := s) (o := none) (s := s) (idx := []) h
  cases v with
  | null => exact ⟨none, va_Zof hl hini hv hA⟩
  | ref a => exact ⟨some a, va_Zof hl hini hv hA⟩
  | _ => cases hr
theorem zg_v7 {D : zDt} (hK : va_K (zDD D) zCl (zTys D) s) (hgv : (Jvm.Cond.and given_1 narrow_1).before args s = true) {t : Nat} (ht : (Term.static "SableCrown$Value" "$VALUES" "[LSableCrown$Value;").eval args s none [] s = some (.ref t)) : ∃ cell : Cell, s.heap[t]? = some cell ∧ cell.slots.size = 7 ∧ cell.cls = D.2.2 6 := by
  have hs := flat_of_before _ hgv
  obtain ⟨a, c, cell, k, q1, q2, q3, q4, q5, q6, -⟩ := Cond.exactly_spec (hs (Cond.exactly (.static "SableCrown$Value" "$VALUES" "[LSableCrown$Value;") "[LSableCrown$Value;") (by decide +kernel))
  cases ht.symm.trans q1
  have hlen := va_eqt (hs (Cond.eq (.length (.static "SableCrown$Value" "$VALUES" "[LSableCrown$Value;")) (.int (7 : Int32))) (by decide +kernel))
  obtain ⟨t', cell', ht', hat, hv⟩ := Term.length_spec hlen
  cases ht.symm.trans ht'
  obtain ⟨hcell, -, -, -⟩ := State.arrayAt?_spec hat
  cases q3.symm.trans hcell
  have hall := hs (Cond.all (.static "SableCrown$Value" "$VALUES" "[LSableCrown$Value;") (.le (.index 0) (.int 6))) (by decide +kernel)
  have hall' := Cond.all_elim ht hat (by simpa [Cond.before, Cond.holds] using hall)
  have h7 : ¬ 7 < cell.slots.size := fun hq => by
    have := hall' 7 hq
    revert this
    simp [Cond.value, Term.eval]
    decide
  refine ⟨cell, q3, ?_, ?_⟩
  · have e : Int32.ofNat cell.slots.size = Int32.ofNat 7 := (Value.int.inj hv).symm
    have h1 : (Int32.ofNat cell.slots.size).toNatClampNeg = cell.slots.size := Int32.toNatClampNeg_ofNat_of_lt (by omega)
    have h2 : (Int32.ofNat 7).toNatClampNeg = 7 := Int32.toNatClampNeg_ofNat_of_lt (by omega)
    rw [e, h2] at h1
    omega
  · obtain ⟨-, h⟩ := hK.2 6 _ rfl
    obtain ⟨kA, comp, -, -, -, h4⟩ := h
    rw [q6]
    exact Option.some.inj (q2.symm.trans h4)
end G4b
