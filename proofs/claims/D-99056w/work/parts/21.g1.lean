/-! G1: the law's start: the enums' constants -/
section G1
variable {args : Array Value} {s : State}
theorem zg_sort (htb : ∀ w ∈ lw_tbl, w.before args s = true) (hgv : (Jvm.Cond.and given_1 narrow_1).before args s = true) {A : Nat → Prop} (hA : ∀ a : Nat, a < s.heap.size → ¬ A a) : ∃ ad : Nat → Nat, va_En "SableCrown$Sort" "LSableCrown$Sort;" ["WORD", "NUMBER", "SIGN", "BAD", "END"] [] ad A s s.heap ∧ ∀ i, i < 5 → (Term.static "SableCrown$Sort" (["WORD", "NUMBER", "SIGN", "BAD", "END"].getD i "") "LSableCrown$Sort;").eval args s none [] s = some (.ref (ad i)) := by
  have hs := flat_of_before _ hgv
  have m1 : ∀ i, i < 5 → Cond.laysStatic "SableCrown$Sort" (["WORD", "NUMBER", "SIGN", "BAD", "END"].getD i "") "LSableCrown$Sort;" ∈ lw_tbl := by
    intro i hi
    match i, hi with
    | 0, _ => exact q1015
    | 1, _ => exact q1020
    | 2, _ => exact q1025
    | 3, _ => exact q1027
    | 4, _ => exact q984
  have m2 : ∀ i, i < 5 → (Cond.exactly (.static "SableCrown$Sort" (["WORD", "NUMBER", "SIGN", "BAD", "END"].getD i "") "LSableCrown$Sort;") "SableCrown$Sort") ∈ (flatC (Cond.and given_1 narrow_1)) := by decide +kernel
  have m3 : ∀ i, i < 5 → ∀ j, j < 5 → i ≠ j → (Cond.not (.eq (.static "SableCrown$Sort" (["WORD", "NUMBER", "SIGN", "BAD", "END"].getD i "") "LSableCrown$Sort;") (.static "SableCrown$Sort" (["WORD", "NUMBER", "SIGN", "BAD", "END"].getD j "") "LSableCrown$Sort;"))) ∈ (flatC (Cond.and given_1 narrow_1)) ∨ (Cond.not (.eq (.static "SableCrown$Sort" (["WORD", "NUMBER", "SIGN", "BAD", "END"].getD j "") "LSableCrown$Sort;") (.static "SableCrown$Sort" (["WORD", "NUMBER", "SIGN", "BAD", "END"].getD i "") "LSableCrown$Sort;"))) ∈ (flatC (Cond.and given_1 narrow_1)) := by decide +kernel
  exact va_Enof2 (fun i hi => htb _ (m1 i hi)) (htb _ (by decide +kernel)) (fun i hi => hs _ (m2 i hi)) (fun q hq => nomatch hq) (fun i j hi hj hne => (m3 i hi j hj hne).imp (hs _) (hs _)) hA
theorem zg_value (htb : ∀ w ∈ lw_tbl, w.before args s = true) (hgv : (Jvm.Cond.and given_1 narrow_1).before args s = true) {A : Nat → Prop} (hA : ∀ a : Nat, a < s.heap.size → ¬ A a) : ∃ ad : Nat → Nat, va_En "SableCrown$Value" "LSableCrown$Value;" ["BOWS", "SABLES", "OWES", "DUE", "YEAR", "STORE", "OTHERS"] [("java/lang/Enum", "ordinal", "I", [0, 1, 2, 3, 4, 5, 6])] ad A s s.heap ∧ ∀ i, i < 7 → (Term.static "SableCrown$Value" (["BOWS", "SABLES", "OWES", "DUE", "YEAR", "STORE", "OTHERS"].getD i "") "LSableCrown$Value;").eval args s none [] s = some (.ref (ad i)) := by
  have hs := flat_of_before _ hgv
  have m1 : ∀ i, i < 7 → Cond.laysStatic "SableCrown$Value" (["BOWS", "SABLES", "OWES", "DUE", "YEAR", "STORE", "OTHERS"].getD i "") "LSableCrown$Value;" ∈ lw_tbl := by
    intro i hi
    match i, hi with
    | 0, _ => exact q847
    | 1, _ => exact q859
    | 2, _ => exact q861
    | 3, _ => exact q863
    | 4, _ => exact q865
    | 5, _ => exact q867
    | 6, _ => exact q869
  have m2 : ∀ i, i < 7 → (Cond.exactly (.static "SableCrown$Value" (["BOWS", "SABLES", "OWES", "DUE", "YEAR", "STORE", "OTHERS"].getD i "") "LSableCrown$Value;") "SableCrown$Value") ∈ (flatC (Cond.and given_1 narrow_1)) := by decide +kernel
  have m3 : ∀ i, i < 7 → ∀ j, j < 7 → i ≠ j → (Cond.not (.eq (.static "SableCrown$Value" (["BOWS", "SABLES", "OWES", "DUE", "YEAR", "STORE", "OTHERS"].getD i "") "LSableCrown$Value;") (.static "SableCrown$Value" (["BOWS", "SABLES", "OWES", "DUE", "YEAR", "STORE", "OTHERS"].getD j "") "LSableCrown$Value;"))) ∈ (flatC (Cond.and given_1 narrow_1)) ∨ (Cond.not (.eq (.static "SableCrown$Value" (["BOWS", "SABLES", "OWES", "DUE", "YEAR", "STORE", "OTHERS"].getD j "") "LSableCrown$Value;") (.static "SableCrown$Value" (["BOWS", "SABLES", "OWES", "DUE", "YEAR", "STORE", "OTHERS"].getD i "") "LSableCrown$Value;"))) ∈ (flatC (Cond.and given_1 narrow_1)) := by decide +kernel
  have m4 : ∀ i, i < 7 → (Cond.eq (.field (.static "SableCrown$Value" (["BOWS", "SABLES", "OWES", "DUE", "YEAR", "STORE", "OTHERS"].getD i "") "LSableCrown$Value;") "java/lang/Enum" "ordinal" "I") (.int (([0, 1, 2, 3, 4, 5, 6] : List Int32).getD i 0))) ∈ (flatC (Cond.and given_1 narrow_1)) := by decide +kernel
  exact va_Enof2 (fun i hi => htb _ (m1 i hi)) (htb _ (by decide +kernel)) (fun i hi => hs _ (m2 i hi)) (fun q hq i hi => by rw [List.mem_singleton.mp hq]; exact hs _ (m4 i hi)) (fun i j hi hj hne => (m3 i hi j hj hne).imp (hs _) (hs _)) hA
end G1
