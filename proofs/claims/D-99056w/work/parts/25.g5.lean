/-! G5: the law's start: all that is known of the constants -/
section G5
variable {args : Array Value} {s : State}
theorem zg_con (htb : ∀ w ∈ lw_tbl, w.before args s = true) (hgv : (Jvm.Cond.and given_1 narrow_1).before args s = true) {D : zDt} (hK : va_K (zDD D) zCl (zTys D) s) {b L : Nat} {xs : Nat → Int32} (hX : va_X b L xs s s.heap) (hL : L ≤ 384) (hbl : b < s.heap.size) : ∃ (ad : Nat → Nat) (nf : Nat → Bool), ad 25 = b ∧ zCon (D, s.heap, ad, zK0 L, zF0 nf, zI0 xs) s := by
  have hs := flat_of_before _ hgv
  have hA : ∀ a : Nat, a < s.heap.size → ¬ (fun q : Nat => s.heap.size ≤ q) a := fun a h => Nat.not_le.mpr h
  obtain ⟨aS, ⟨S1, S2⟩, -⟩ := zg_sort htb hgv hA
  obtain ⟨aV, ⟨V1, V2⟩, Ve⟩ := zg_value htb hgv hA
  obtain ⟨aI, tC, C1, C2, C3⟩ := zg_box htb hgv hA
  obtain ⟨tV, Te, T1, T2⟩ := zg_vals htb hgv hA Ve
  obtain ⟨g, hg⟩ := zg_lits htb hgv hA
  obtain ⟨mi, hmi⟩ := va_Mi.of (hs (Cond.isRef (.mirror "[Ljava/lang/Object;")) (by decide +kernel))
  obtain ⟨r0, R0⟩ := zg_nul (htb _ q202) (htb _ (by decide +kernel)) (hs (Cond.isRef (.static "java/lang/Throwable" "UNASSIGNED_STACK" "[Ljava/lang/StackTraceElement;")) (by decide +kernel)) hA
  obtain ⟨r1, R1⟩ := zg_nul (htb _ q204) (htb _ (by decide +kernel)) (hs (Cond.isRef (.static "java/lang/Throwable" "SUPPRESSED_SENTINEL" "Ljava/util/List;")) (by decide +kernel)) hA
  obtain ⟨r2, R2⟩ := zg_nul (htb _ q313) (htb _ (by decide +kernel)) (hs (Cond.isRef (.static "jdk/internal/util/Preconditions" "SIOOBE_FORMATTER" "Ljava/util/function/BiFunction;")) (by decide +kernel)) hA
  have W0 := va_Zof (htb _ q226) (htb _ (by decide +kernel)) (va_eqi (hs (Cond.eq (.static "java/lang/String" "COMPACT_STRINGS" "Z") (.int (1 : Int32))) (by decide +kernel))) hA
  have W1 := va_Zof (htb _ q1197) (htb _ (by decide +kernel)) (va_eqi (hs (Cond.eq (.static "java/lang/Integer$IntegerCache" "high" "I") (.int (127 : Int32))) (by decide +kernel))) hA
  have U0 := vx_Zqof (htb _ q202) (htb _ (by decide +kernel)) (hs (Cond.isRef (.static "java/lang/Throwable" "UNASSIGNED_STACK" "[Ljava/lang/StackTraceElement;")) (by decide +kernel)) hA
  have U1 := vx_Zqof (htb _ q204) (htb _ (by decide +kernel)) (hs (Cond.isRef (.static "java/lang/Throwable" "SUPPRESSED_SENTINEL" "Ljava/util/List;")) (by decide +kernel)) hA
  obtain ⟨cell7, x1, x2, x3⟩ := zg_v7 hK hgv Te
  let rr : Nat → Option Nat := fun i => match i with | 0 => r0 | 1 => r1 | _ => r2
  let nf : Nat → Bool := fun i => (rr i).isSome
  let nA : Nat → Nat := fun i => (rr i).getD 0
  refine ⟨zA0 aS aV aI nA tV tC mi b g, nf, rfl, ?_⟩
  have eR : ∀ i, i < 3 → va_rf ((zF0 nf 26 i).map (zA0 aS aV aI nA tV tC mi b g)) = va_rf (rr i) := by
    intro i hi
    have h1 : zF0 nf 26 i = if nf i = true then some (27 + i) else none := by
      unfold zF0
      rw [if_neg (by omega), if_neg (by omega), if_pos rfl, if_pos hi]
    rw [h1]
    cases hr : rr i with
    | none =>
      have : nf i = false := by show (rr i).isSome = false; rw [hr]; rfl
      rw [this]; rfl
    | some a =>
      have : nf i = true := by show (rr i).isSome = true; rw [hr]; rfl
      rw [this, if_pos rfl, Option.map_some, zA0_n hi]
      show va_rf (some ((rr i).getD 0)) = _
      rw [hr]; rfl
  refine ⟨?_, ?_, ?_, ?_, ?_, U0, U1, hmi, ⟨cell7, x1, x2, x3⟩, ?_⟩
  · intro o ho c n hk
    rcases zK0_cs hk with ⟨h, e⟩ | ⟨i, hi, rfl, e⟩ | ⟨rfl, e⟩ | ⟨rfl, e⟩ | ⟨rfl, e⟩ | ⟨rfl, e⟩ | ⟨⟨h1, h2⟩, e⟩ | ⟨i, hi, rfl, e⟩ | ⟨i, hi, rfl, e⟩ | ⟨i, hi, rfl, e⟩ <;> cases e <;> dsimp only
    · rw [zA0_s h]
      obtain ⟨-, z, -⟩ := S1 o h
      exact ⟨fun _ => z.lt, Or.inr (Or.inl ⟨Or.inl rfl, fun _ => z⟩)⟩
    · rw [zA0_v hi]
      obtain ⟨-, z, z2⟩ := V1 n hi
      refine ⟨fun _ => z.lt, Or.inr (Or.inr (Or.inl ⟨rfl, z, ?_⟩))⟩
      have z3 := z2 _ (List.mem_singleton.mpr rfl)
      have e : ∀ i, i < 7 → (([0, 1, 2, 3, 4, 5, 6] : List Int32).getD i 0) = nI i := by decide
      rw [← e n hi]
      exact z3
    · refine ⟨fun _ => T2.lt, Or.inr (Or.inr (Or.inr ⟨6, rfl, by decide, by decide, T2.cg fun j hj => ?_⟩))⟩
      show _ = va_rf ((zF0 nf 17 j).map _)
      have h1 : zF0 nf 17 j = some (10 + j) := by
        unfold zF0
        rw [if_pos rfl, if_pos hj]
      rw [h1, Option.map_some, zA0_v hj]
      rfl
    · refine ⟨fun _ => C3.lt, Or.inr (Or.inr (Or.inr ⟨7, rfl, by decide, by decide, C3.cg fun j hj => ?_⟩))⟩
      show _ = va_rf ((zF0 nf 18 j).map _)
      have h1 : zF0 nf 18 j = some (200 + j) := by
        unfold zF0
        rw [if_neg (by decide), if_pos rfl, if_pos hj]
      rw [h1, Option.map_some, zA0_i]
      rfl
    · exact ⟨fun h => absurd h (by decide), Or.inr (Or.inl ⟨Or.inr rfl, fun h => absurd h (by decide)⟩)⟩
    · refine ⟨fun _ => hbl, Or.inr (Or.inr (Or.inr ⟨0, rfl, by decide, by decide, ?_⟩))⟩
      obtain ⟨scr, y1, y2, y3, y4, y5⟩ := hX
      refine ⟨scr, y1, y2, y3, by rw [y4]; exact Nat.le_refl _, by rw [y4], fun j hj => ?_, hA _ hbl⟩
      rw [y5 j hj]
      rfl
    · refine ⟨fun h => ?_, Or.inr (Or.inl ⟨Or.inr rfl, fun h => absurd h (by decide)⟩)⟩
      simp [zopq, h1, h2] at h
    · rw [zA0_l hi]
      obtain ⟨⟨y1, y2, y3, y4⟩, -⟩ := hg i hi
      refine ⟨fun _ => y1.lt, Or.inl ⟨by decide, _, rfl, y1, fun k hk => ?_⟩⟩
      match k, hk with
      | 0, _ =>
        show va_OF "java/lang/String" "value" "[B" (va_rf ((zF0 nf (30 + 2 * i) 0).map _)) _ _ _ _
        rw [zF0_l hi, Option.map_some, zA0_m hi]
        exact y3
      | 1, _ =>
        show va_OF "java/lang/String" "coder" "B" (.int (zI0 xs (30 + 2 * i) 1)) _ _ _ _
        rw [zI0_c hi]
        exact y2
      | k + 2, hk => cases hk
    · rw [zA0_m hi]
      obtain ⟨⟨y1, y2, y3, y4⟩, -⟩ := hg i hi
      refine ⟨fun _ => y4.lt, Or.inr (Or.inr (Or.inr ⟨1, rfl, by decide, by decide, y4.cg fun j hj => ?_⟩))⟩
      show _ = Value.int (zI0 xs (31 + 2 * i) j)
      rw [zI0_b hi]
    · rw [zA0_i]
      refine ⟨fun _ => (C1.1 i hi).lt, Or.inl ⟨by decide, _, rfl, C1.1 i hi, fun k hk => ?_⟩⟩
      match k, hk with
      | 0, _ =>
        show va_OF "java/lang/Integer" "value" "I" (.int (zI0 xs (200 + i) 0)) _ _ _ _
        rw [zI0_i hi]
        exact C1.2 i hi
      | k + 1, hk => cases hk
  · exact fun o ho k j h => zF0_lt h
  · intro q hq
    have hSe : ∀ i, i < 5 → zc (zA0 aS aV aI nA tV tC mi b g) (.ref i) = .ref (aS i) := fun i hi => congrArg Value.ref (zA0_s hi)
    have hVe : ∀ i, i < 7 → zc (zA0 aS aV aI nA tV tC mi b g) (.ref (10 + i)) = .ref (aV i) := fun i hi => congrArg Value.ref (zA0_v hi)
    simp only [zStat, List.mem_cons, List.not_mem_nil, or_false] at hq
    rcases hq with rfl | rfl | rfl | rfl | rfl | rfl | rfl | rfl | rfl | rfl | rfl | rfl | rfl | rfl | rfl | rfl
    · exact (S1 0 (by decide)).1
    · exact (S1 1 (by decide)).1
    · exact (S1 2 (by decide)).1
    · exact (S1 3 (by decide)).1
    · exact (S1 4 (by decide)).1
    · exact (V1 0 (by decide)).1
    · exact (V1 1 (by decide)).1
    · exact (V1 2 (by decide)).1
    · exact (V1 3 (by decide)).1
    · exact (V1 4 (by decide)).1
    · exact (V1 5 (by decide)).1
    · exact (V1 6 (by decide)).1
    · exact T1
    · exact W0
    · exact W1
    · exact C2
  · intro q hq
    obtain ⟨i, hi, rfl⟩ := List.mem_iff_getElem.mp hq
    have hi' : i < 46 := hi
    obtain ⟨-, y⟩ := hg i hi'
    have e : zLit.getD i ("", 0, "", 0) = zLit[i] := by rw [List.getD_eq_getElem?_getD, List.getElem?_eq_getElem hi]; rfl
    have e2 : ∀ i, i < 46 → (zLit.getD i ("", 0, "", 0)).2.2.2 = 30 + 2 * i := by decide +kernel
    rw [e] at y
    have e3 := e2 i hi'
    rw [e] at e3
    have key : vk_R zLit[i].1 zLit[i].2.1 zLit[i].2.2.1 (zA0 aS aV aI nA tV tC mi b g (30 + 2 * i)) s := by
      rw [zA0_l hi']
      exact y
    have e4 : zA0 aS aV aI nA tV tC mi b g (30 + 2 * i) = zA0 aS aV aI nA tV tC mi b g zLit[i].2.2.2 := congrArg _ e3.symm
    rw [e4] at key
    exact key
  · intro i j hi hj e
    have e' : zA0 aS aV aI nA tV tC mi b g i = zA0 aS aV aI nA tV tC mi b g j := e
    rw [zA0_s hi, zA0_s hj] at e'
    exact S2 i j hi hj e'
  · intro q hq
    simp only [zStaR, List.mem_cons, List.not_mem_nil, or_false] at hq
    rcases hq with rfl | rfl | rfl
    · show va_Z _ _ _ (va_rf ((zF0 nf 26 0).map _)) _ _ _
      rw [eR 0 (by decide)]; exact R0
    · show va_Z _ _ _ (va_rf ((zF0 nf 26 1).map _)) _ _ _
      rw [eR 1 (by decide)]; exact R1
    · show va_Z _ _ _ (va_rf ((zF0 nf 26 2).map _)) _ _ _
      rw [eR 2 (by decide)]; exact R2
end G5
