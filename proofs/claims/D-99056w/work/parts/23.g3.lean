/-! G3: the law's start: a String literal -/
section G3
variable {args : Array Value} {s : State}
theorem zg_lit (htb : ∀ w ∈ lw_tbl, w.before args s = true) (hgv : (Jvm.Cond.and given_1 narrow_1).before args s = true) {A : Nat → Prop} (hA : ∀ a : Nat, a < s.heap.size → ¬ A a) {own tx : String} {idx n : Nat} {bs : List Int32} (hn : n < 2 ^ 31) (hst : Cond.stringRef own idx tx ∈ lw_tbl)
    (h1 : (Cond.exactly (.string own idx) "java/lang/String") ∈ flatC (Cond.and given_1 narrow_1)) (h2 : (Cond.eq (.field (.string own idx) "java/lang/String" "coder" "B") (.int 0)) ∈ flatC (Cond.and given_1 narrow_1)) (h3 : (Cond.arrayOf (.field (.string own idx) "java/lang/String" "value" "[B") .byte) ∈ flatC (Cond.and given_1 narrow_1))
    (h4 : (Cond.eq (.length (.field (.string own idx) "java/lang/String" "value" "[B")) (.int (Int32.ofNat n))) ∈ flatC (Cond.and given_1 narrow_1)) (h5 : ∀ j : Nat, j < n → (Cond.eq (.elem (.field (.string own idx) "java/lang/String" "value" "[B") (.int (Int32.ofNat j))) (.int (bs.getD j 0))) ∈ flatC (Cond.and given_1 narrow_1)) :
    ∃ a b : Nat → Nat, vk_S 1 [n] [bs] a b A s s.heap ∧ vk_R own idx tx (a 0) s := by
  have hs := flat_of_before _ hgv
  have e0 : ∀ i : Nat, i < 1 → ([n] : List Nat).getD i 0 = n := fun i hi => by rw [show i = 0 by omega]; rfl
  have e1 : ∀ i : Nat, i < 1 → ([bs] : List (List Int32)).getD i [] = bs := fun i hi => by rw [show i = 0 by omega]; rfl
  obtain ⟨a, b, g1, g2⟩ := vk_Sof (N := 1) (tm := fun _ => .string own idx) (len := [n]) (byt := [bs]) (A := A) (fun i hi => by rw [e0 i hi]; exact hn) (fun i hi => hs _ h1) (fun i hi => hs _ h2) (fun i hi => hs _ h3) (fun i hi => by rw [e0 i hi]; exact hs _ h4) (fun i hi j hj => by rw [e1 i hi]; exact hs _ (h5 j (by rw [← e0 i hi]; exact hj))) (fun i j hi hj hne => absurd (show i = j by omega) hne) hA
  exact ⟨a, b, g1, vk_R.of (A := args) (htb _ hst) (g2 0 (by decide))⟩
end G3
