/-! G0: the law's start: classes and arrays -/
section G0
variable {args : Array Value} {s : State}
theorem zg_one (hts : ∀ w ∈ lw_all, w.before args s = true) {c n : Nat} (hc : zOk c) {q : vw_C} (hq : zCl[c]? = some q) (hi : Cond.instantiable q.1 n ∈ lw_all) : ∃ (cC : ClassId) (iS : Nat → Nat), u_Kn s q.1 q.2.1 q.2.2 cC iS := by
  obtain ⟨q', g1, -, -, g4, -⟩ := hc
  cases Option.some.inj (g1.symm.trans hq)
  exact u_known hts g4 (hts _ hi)
theorem zg_cl (hts : ∀ w ∈ lw_all, w.before args s = true) : ∃ (dC : Nat → ClassId) (dI : Nat → Nat → Nat), ∀ (c : Nat) (q : vw_C), zCl[c]? = some q → u_Kn s q.1 q.2.1 q.2.2 (dC c) (dI c) := by
  have key : ∀ c : Nat, ∃ (cC : ClassId) (iS : Nat → Nat), ∀ q : vw_C, zCl[c]? = some q → u_Kn s q.1 q.2.1 q.2.2 cC iS := by
    intro c
    by_cases hc : c < 18
    · match c, hc with
      | 0, _ => obtain ⟨a, b, h⟩ := zg_one hts zok0 (q := zCl[0]) rfl q146; exact ⟨a, b, fun q hq => by cases Option.some.inj (hq.symm.trans (rfl : zCl[0]? = some (zCl[0]))); exact h⟩
      | 1, _ => obtain ⟨a, b, h⟩ := zg_one hts zok1 (q := zCl[1]) rfl q154; exact ⟨a, b, fun q hq => by cases Option.some.inj (hq.symm.trans (rfl : zCl[1]? = some (zCl[1]))); exact h⟩
      | 2, _ => obtain ⟨a, b, h⟩ := zg_one hts zok2 (q := zCl[2]) rfl q160; exact ⟨a, b, fun q hq => by cases Option.some.inj (hq.symm.trans (rfl : zCl[2]? = some (zCl[2]))); exact h⟩
      | 3, _ => obtain ⟨a, b, h⟩ := zg_one hts zok3 (q := zCl[3]) rfl q500; exact ⟨a, b, fun q hq => by cases Option.some.inj (hq.symm.trans (rfl : zCl[3]? = some (zCl[3]))); exact h⟩
      | 4, _ => obtain ⟨a, b, h⟩ := zg_one hts zok4 (q := zCl[4]) rfl q578; exact ⟨a, b, fun q hq => by cases Option.some.inj (hq.symm.trans (rfl : zCl[4]? = some (zCl[4]))); exact h⟩
      | 5, _ => obtain ⟨a, b, h⟩ := zg_one hts zok5 (q := zCl[5]) rfl q584; exact ⟨a, b, fun q hq => by cases Option.some.inj (hq.symm.trans (rfl : zCl[5]? = some (zCl[5]))); exact h⟩
      | 6, _ => obtain ⟨a, b, h⟩ := zg_one hts zok6 (q := zCl[6]) rfl q1663; exact ⟨a, b, fun q hq => by cases Option.some.inj (hq.symm.trans (rfl : zCl[6]? = some (zCl[6]))); exact h⟩
      | 7, _ => obtain ⟨a, b, h⟩ := zg_one hts zok7 (q := zCl[7]) rfl q969; exact ⟨a, b, fun q hq => by cases Option.some.inj (hq.symm.trans (rfl : zCl[7]? = some (zCl[7]))); exact h⟩
      | 8, _ => obtain ⟨a, b, h⟩ := zg_one hts zok8 (q := zCl[8]) rfl q1095; exact ⟨a, b, fun q hq => by cases Option.some.inj (hq.symm.trans (rfl : zCl[8]? = some (zCl[8]))); exact h⟩
      | 9, _ => obtain ⟨a, b, h⟩ := zg_one hts zok9 (q := zCl[9]) rfl q1122; exact ⟨a, b, fun q hq => by cases Option.some.inj (hq.symm.trans (rfl : zCl[9]? = some (zCl[9]))); exact h⟩
      | 10, _ => obtain ⟨a, b, h⟩ := zg_one hts zok10 (q := zCl[10]) rfl q1164; exact ⟨a, b, fun q hq => by cases Option.some.inj (hq.symm.trans (rfl : zCl[10]? = some (zCl[10]))); exact h⟩
      | 11, _ => obtain ⟨a, b, h⟩ := zg_one hts zok11 (q := zCl[11]) rfl q1248; exact ⟨a, b, fun q hq => by cases Option.some.inj (hq.symm.trans (rfl : zCl[11]? = some (zCl[11]))); exact h⟩
      | 12, _ => obtain ⟨a, b, h⟩ := zg_one hts zok12 (q := zCl[12]) rfl q1283; exact ⟨a, b, fun q hq => by cases Option.some.inj (hq.symm.trans (rfl : zCl[12]? = some (zCl[12]))); exact h⟩
      | 13, _ => obtain ⟨a, b, h⟩ := zg_one hts zok13 (q := zCl[13]) rfl q1310; exact ⟨a, b, fun q hq => by cases Option.some.inj (hq.symm.trans (rfl : zCl[13]? = some (zCl[13]))); exact h⟩
      | 14, _ => obtain ⟨a, b, h⟩ := zg_one hts zok14 (q := zCl[14]) rfl q1330; exact ⟨a, b, fun q hq => by cases Option.some.inj (hq.symm.trans (rfl : zCl[14]? = some (zCl[14]))); exact h⟩
      | 15, _ => obtain ⟨a, b, h⟩ := zg_one hts zok15 (q := zCl[15]) rfl q399; exact ⟨a, b, fun q hq => by cases Option.some.inj (hq.symm.trans (rfl : zCl[15]? = some (zCl[15]))); exact h⟩
      | 16, _ => obtain ⟨a, b, h⟩ := zg_one hts zok16 (q := zCl[16]) rfl q217; exact ⟨a, b, fun q hq => by cases Option.some.inj (hq.symm.trans (rfl : zCl[16]? = some (zCl[16]))); exact h⟩
      | 17, _ => obtain ⟨a, b, h⟩ := zg_one hts zok17 (q := zCl[17]) rfl q1201; exact ⟨a, b, fun q hq => by cases Option.some.inj (hq.symm.trans (rfl : zCl[17]? = some (zCl[17]))); exact h⟩
      | c + 18, h9 => exact absurd h9 (by omega)
    · exact ⟨0, fun _ => 0, fun q hq => absurd (zCl_lt hq) hc⟩
  exact ⟨fun c => Classical.choose (key c), fun c => Classical.choose (Classical.choose_spec (key c)), fun c q hq => Classical.choose_spec (Classical.choose_spec (key c)) q hq⟩
theorem zg_prim {t : Nat} (ht : t < 4) (h : (Cond.arrayClass (zAr t)).before args s = true) : ∃ cA : ClassId, ArrOfT s cA (zAr t) ∧ va_RA s cA (zAr t) := by
  obtain ⟨c, k, comp, h1, h2, h3⟩ := Cond.arrayClass_spec h
  refine ⟨c, fun n z => ⟨fun k h => (by cases h), k, h2, comp, h3⟩, ?_⟩
  match t, ht with
  | 0, _ => exact h1
  | 1, _ => exact h1
  | 2, _ => exact h1
  | 3, _ => exact h1
theorem zg_obj {C : String} (h : (Cond.arrayOver (.object C)).before args s = true) : ∃ cA : ClassId, ArrOfT s cA (.object C) ∧ va_RA s cA (.object C) := by
  obtain ⟨comp, c, k, h1, -, h2, h3, h4⟩ := Cond.arrayOver_spec h
  exact ⟨c, fun n z => ⟨fun k h => (by cases h), k, h2, comp, h3⟩, k, comp, h2, h3, h1, h4⟩
theorem zg_K (hts : ∀ w ∈ lw_all, w.before args s = true) (htb : ∀ w ∈ lw_tbl, w.before args s = true) : ∃ D : zDt, va_K (zDD D) zCl (zTys D) s := by
  obtain ⟨dC, dI, hcl⟩ := zg_cl hts
  obtain ⟨a0, h0⟩ := zg_prim (t := 0) (by decide) (hts _ q521)
  obtain ⟨a1, h1⟩ := zg_prim (t := 1) (by decide) (hts _ q247)
  obtain ⟨a2, h2⟩ := zg_prim (t := 2) (by decide) (hts _ q1070)
  obtain ⟨a3, h3⟩ := zg_prim (t := 3) (by decide) (hts _ q2290)
  obtain ⟨a4, h4⟩ := zg_obj (htb _ q172)
  obtain ⟨a5, h5⟩ := zg_obj (htb _ q1669)
  obtain ⟨a6, h6⟩ := zg_obj (htb _ q514)
  refine ⟨(dC, dI, fun t => match t with | 0 => a0 | 1 => a1 | 2 => a2 | 3 => a3 | 4 => a4 | 5 => a5 | _ => a6), hcl, fun k q hk => ?_⟩
  match k, hk with
  | 0, hk => cases hk; exact h0
  | 1, hk => cases hk; exact h1
  | 2, hk => cases hk; exact h2
  | 3, hk => cases hk; exact h3
  | 4, hk => cases hk; exact h4
  | 5, hk => cases hk; exact h5
  | 6, hk => cases hk; exact h6
  | k + 7, hk => simp [zTys] at hk
theorem zg_Nw (hts : ∀ w ∈ lw_all, w.before args s = true) (htb : ∀ w ∈ lw_tbl, w.before args s = true) (hnc : (Cond.not (.castable "java/lang/IllegalArgumentException" "java/util/NoSuchElementException")).before args s = true) : zNw s := by
  refine ⟨fun w hw hm => va_Nw.of (A := args) ?_ (htb w hw), va_AO.of (htb _ q172), va_AO.of (htb _ q1669), va_Nc.of hnc, ?_⟩
  · cases w <;> first | rfl | cases hm
  · exact Cond.privateMethod_warm (args := args) (State.WarmedH.refl s) (htb _ q261)
end G0
