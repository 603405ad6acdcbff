/-! G2: the law's start: the Integer cache -/
section G2
variable {args : Array Value} {s : State}
theorem zg_box (htb : ∀ w ∈ lw_tbl, w.before args s = true) (hgv : (Jvm.Cond.and given_1 narrow_1).before args s = true) {A : Nat → Prop} (hA : ∀ a : Nat, a < s.heap.size → ¬ A a) : ∃ (ad : Nat → Nat) (t : Nat), vb_C ad A s s.heap ∧ va_Z "java/lang/Integer$IntegerCache" "cache" "[Ljava/lang/Integer;" (.ref t) A s s.heap ∧ va_T (.object "java/lang/Integer") t 256 (fun j => .ref (ad j)) A s s.heap := by
  have hs := flat_of_before _ hgv
  have hlen := va_eqt (hs (Cond.eq (.length (.static "java/lang/Integer$IntegerCache" "cache" "[Ljava/lang/Integer;")) (.int (256 : Int32))) (by decide +kernel))
  obtain ⟨ad, h1, h2⟩ := vb_Cof (A := A) (st := .static "java/lang/Integer$IntegerCache" "cache" "[Ljava/lang/Integer;") rfl hlen (hs _ (by decide +kernel)) hA
  obtain ⟨t, ht, hT⟩ := va_Tof (N := 256) (f := fun j => .ref (ad j)) (A := A) (ty := .object "java/lang/Integer") (tm := .static "java/lang/Integer$IntegerCache" "cache" "[Ljava/lang/Integer;") (by decide) (hs _ (by decide +kernel)) hlen h2 hA
  exact ⟨ad, t, h1, va_Zref (htb _ q1199) (htb _ (by decide +kernel)) ht hA, hT⟩
end G2
section G2b
variable {args : Array Value} {s : State}
theorem zg_eqr {t u : Term} {a : Nat} (h : (Cond.eq t u).before args s = true) (hu : u.eval args s none [] s = some (.ref a)) : t.eval args s none [] s = some (.ref a) := by
  cases ht : t.eval args s none [] s with
  | none => simp [Cond.before, Cond.holds, Cond.value, ht, hu] at h
  | some v => cases v <;> simp_all [Cond.before, Cond.holds, Cond.value]
end G2b
section G2c
variable {args : Array Value} {s : State}
theorem zg_vals (htb : ∀ w ∈ lw_tbl, w.before args s = true) (hgv : (Jvm.Cond.and given_1 narrow_1).before args s = true) {A : Nat → Prop} (hA : ∀ a : Nat, a < s.heap.size → ¬ A a) {ad : Nat → Nat} (hev : ∀ i, i < 7 → (Term.static "SableCrown$Value" (["BOWS", "SABLES", "OWES", "DUE", "YEAR", "STORE", "OTHERS"].getD i "") "LSableCrown$Value;").eval args s none [] s = some (.ref (ad i))) :
    ∃ t : Nat, (Term.static "SableCrown$Value" "$VALUES" "[LSableCrown$Value;").eval args s none [] s = some (.ref t) ∧ va_Z "SableCrown$Value" "$VALUES" "[LSableCrown$Value;" (.ref t) A s s.heap ∧ va_T (.object "SableCrown$Value") t 7 (fun j => .ref (ad j)) A s s.heap := by
  have hs := flat_of_before _ hgv
  have hlen := va_eqt (hs (Cond.eq (.length (.static "SableCrown$Value" "$VALUES" "[LSableCrown$Value;")) (.int (7 : Int32))) (by decide +kernel))
  have m : ∀ j, j < 7 → Cond.eq (.elem (.static "SableCrown$Value" "$VALUES" "[LSableCrown$Value;") (.int (Int32.ofNat j))) (.static "SableCrown$Value" (["BOWS", "SABLES", "OWES", "DUE", "YEAR", "STORE", "OTHERS"].getD j "") "LSableCrown$Value;") ∈ flatC (Cond.and given_1 narrow_1) := by decide +kernel
  obtain ⟨t, ht, hT⟩ := va_Tof (N := 7) (f := fun j => .ref (ad j)) (A := A) (ty := .object "SableCrown$Value") (tm := .static "SableCrown$Value" "$VALUES" "[LSableCrown$Value;") (by decide) (hs _ (by decide +kernel)) hlen (fun j hj => zg_eqr (hs _ (m j hj)) (hev j hj)) hA
  exact ⟨t, ht, va_Zref (htb _ q509) (htb _ (by decide +kernel)) ht hA, hT⟩
end G2c
