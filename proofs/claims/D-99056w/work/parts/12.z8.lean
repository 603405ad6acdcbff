/-! Z8: methods found by the receiver; Enum.ordinal -/
theorem zst_Sort_WORD : (("SableCrown$Sort", "WORD", "LSableCrown$Sort;", .ref 0) : String × String × String × Value) ∈ zStat := List.mem_of_getElem? (i := 0) rfl
theorem zst_Sort_NUMBER : (("SableCrown$Sort", "NUMBER", "LSableCrown$Sort;", .ref 1) : String × String × String × Value) ∈ zStat := List.mem_of_getElem? (i := 1) rfl
theorem zst_Sort_SIGN : (("SableCrown$Sort", "SIGN", "LSableCrown$Sort;", .ref 2) : String × String × String × Value) ∈ zStat := List.mem_of_getElem? (i := 2) rfl
theorem zst_Sort_BAD : (("SableCrown$Sort", "BAD", "LSableCrown$Sort;", .ref 3) : String × String × String × Value) ∈ zStat := List.mem_of_getElem? (i := 3) rfl
theorem zst_Sort_END : (("SableCrown$Sort", "END", "LSableCrown$Sort;", .ref 4) : String × String × String × Value) ∈ zStat := List.mem_of_getElem? (i := 4) rfl
theorem zst_Value_BOWS : (("SableCrown$Value", "BOWS", "LSableCrown$Value;", .ref 10) : String × String × String × Value) ∈ zStat := List.mem_of_getElem? (i := 5) rfl
theorem zst_Value_SABLES : (("SableCrown$Value", "SABLES", "LSableCrown$Value;", .ref 11) : String × String × String × Value) ∈ zStat := List.mem_of_getElem? (i := 6) rfl
theorem zst_Value_OWES : (("SableCrown$Value", "OWES", "LSableCrown$Value;", .ref 12) : String × String × String × Value) ∈ zStat := List.mem_of_getElem? (i := 7) rfl
theorem zst_Value_DUE : (("SableCrown$Value", "DUE", "LSableCrown$Value;", .ref 13) : String × String × String × Value) ∈ zStat := List.mem_of_getElem? (i := 8) rfl
theorem zst_Value_YEAR : (("SableCrown$Value", "YEAR", "LSableCrown$Value;", .ref 14) : String × String × String × Value) ∈ zStat := List.mem_of_getElem? (i := 9) rfl
theorem zst_Value_STORE : (("SableCrown$Value", "STORE", "LSableCrown$Value;", .ref 15) : String × String × String × Value) ∈ zStat := List.mem_of_getElem? (i := 10) rfl
theorem zst_Value_OTHERS : (("SableCrown$Value", "OTHERS", "LSableCrown$Value;", .ref 16) : String × String × String × Value) ∈ zStat := List.mem_of_getElem? (i := 11) rfl
theorem zst_Value_VALUES : (("SableCrown$Value", "$VALUES", "[LSableCrown$Value;", .ref 17) : String × String × String × Value) ∈ zStat := List.mem_of_getElem? (i := 12) rfl
theorem zst_String_COMPACT_STRINGS : (("java/lang/String", "COMPACT_STRINGS", "Z", .int 1) : String × String × String × Value) ∈ zStat := List.mem_of_getElem? (i := 13) rfl
theorem zst_IntegerCache_high : (("java/lang/Integer$IntegerCache", "high", "I", .int 127) : String × String × String × Value) ∈ zStat := List.mem_of_getElem? (i := 14) rfl
theorem zst_IntegerCache_cache : (("java/lang/Integer$IntegerCache", "cache", "[Ljava/lang/Integer;", .ref 18) : String × String × String × Value) ∈ zStat := List.mem_of_getElem? (i := 15) rfl
section Z8
variable {l : Launch} {G : zGt} {M : zM} {fr lo mc ms pc n : Nat} {lv lv' : List (Nat × Value)} {st : List Value} {K K1 : zKd} {F F1 : zFd} {I I1 : zId} {L L1 : zLd} {Q : zQt}
/-- a call of an abstract method: what the receiver's class says -/
theorem z_cA {idx nA fr1 lo1 mc1 ms1 mc2 ms2 maxL b c n0 : Nat} {x y : MethodName} {bytes : ByteArray} {ret : Option FieldType} {C owner : String} {As st0 : List Value} {q : vw_C} {v : Option Value} (hm : zMet l G y (ws_ y bytes maxL ret) fr1 lo1 mc1 ms1 (.ref b :: As) K F I L (zQe (.inl v) K1 F1 I1 L1)) (hd : decode M.2.1 pc = .ok (.invokevirtual idx, 3)) (hn : pc + 3 = n)
    (hq1 : Cond.methodLink M.1 idx x ∈ lw_all) (hq2 : Cond.sameMethod x.cls owner x.name x.desc ∈ lw_all) (hq3 : Cond.selects C x y ∈ lw_all) (hq4 : Cond.instanceMethod y ∈ lw_all) (hq5 : Cond.initialized y.cls ∈ lw_all) (hq6 : Cond.code y bytes maxL ret ∈ lw_all) (hz : Cond.declares ⟨owner, x.name, x.desc⟩ ∈ lw_tbl)
    (hd2 : owner ≠ "java/lang/invoke/MethodHandle" ∧ owner ≠ "java/lang/invoke/VarHandle" ∧ (parseMethodDescriptor x.desc).map (fun d => d.parameters.length) = some nA) (hA : As.length = nA) (hR1 : fr1 + 1 ≤ fr ∧ 8 + (maxL + 11) + lo1 ≤ lo) (hb : K b = some (c, n0)) (hc : zCl[c]? = some q) (hq : q.1 = C) (hs : st0 = As.reverse ++ .ref b :: st) (hst : (st.map fun v => v.category).sum ≤ 8) (hmc : mc2 + mc1 ≤ mc) (hms : ms2 + ms1 ≤ ms)
    (kk : zW l G M fr lo mc2 ms2 n lv (v.toList ++ st) K1 F1 I1 L1 Q) : zW l G M fr lo mc ms pc lv st0 K F I L Q := by
  intro p e R s m args below meth c9 H locs cells slots ls ad ad0 K0 hc9 hR hP hE hw hl
  subst hs
  subst hq
  obtain ⟨w1, w2⟩ := zws_app hw.2
  have hwA : zws K (.ref b :: As) := ⟨w2.1, zws_rev w1⟩
  have hG : GoodIn lw_all (va_wsU M.1 idx q.1 owner x y (ws_ y bytes maxL ret)) := by
    refine lw_app ?_ (lw_meth hq6)
    intro w hw
    simp only [List.mem_cons, List.not_mem_nil, or_false] at hw
    rcases hw with e | e | e | e | e
    · rw [e]; exact hq1
    · rw [e]; exact hq2
    · rw [e]; exact hq3
    · rw [e]; exact hq4
    · rw [e]; exact hq5
  exact zRun_W (a := ((Value.ref (ad b)) :: As.map (zc ad)).toArray) (vx_runU (As := As.map (zc ad)) (rest := st.map (zc ad)) (b := ad b) (C := q.1) ⟨hc9.1, hc9.2.1, hc9.2.2.1, hc9.2.2.2.1, hc9.2.2.2.2.1⟩ (hm ad) (va_cwA nA hc9.2.2.2.2.1 hG rfl rfl rfl (hP.2.2.2.2.2.2.2.1 _ hz rfl) hd2 ⟨by show fr1 + 1 ≤ R.frames; omega, by show 8 + (maxL + 11) + lo1 ≤ R.locals; omega⟩) ⟨zRep.blind, hP.obj hb hc, zPre (p := p) (e := e) hP hwA⟩ rfl (by rw [List.length_map]; exact hA) hl.1 (zstk ad As st b) (zroom hst) hd ⟨by omega, by omega⟩) hn hc9 hR hmc hms hP hE ⟨hw.1, w2.2⟩ hl (zQe_kk kk) zQe_kx
/-- what is known of a constant of the enum Value -/
theorem zRep.enumV {ad : Nat → Nat} {s : State} {H : Heap} {locs : List Loc} (h : zRep G ad K F I L s H locs) {o n0 : Nat} (hk : K o = some (21, n0)) (ho : o < zNC) : (∃ cell : Cell, H[ad o]? = some cell ∧ cell.vm.isStatics = false ∧ s.vm.findClass "SableCrown$Value" = some cell.cls) ∧ va_OF "java/lang/Enum" "ordinal" "I" (.int (nI n0)) (ad o) (zA G) s H := by
  obtain ⟨e1, e2, e3, e4⟩ := h.2.2.2.1 o ho
  obtain ⟨g1, g2⟩ := h.2.2.2.2.2.2.1.1 o ho 21 n0 (by rw [← e1]; exact hk)
  rcases g2 with ⟨a, q', b1, b2, b3⟩ | ⟨a, b⟩ | ⟨a, b, b2⟩ | ⟨t, a, a2, a3, b⟩
  · omega
  · omega
  · obtain ⟨cell, z1, z2, z3, -⟩ := b.kept h.2.2.2.2.1.2.1
    rw [e4]
    exact ⟨⟨cell, z1, z2, z3⟩, b2.kept h.2.2.2.2.1.2.1⟩
  · omega
abbrev MJ18_ordinal : zM := (RJ18, cJ18_ordinal, 1, (some .int), "ordinal", [])
theorem C_J18_ordinal (htr : l.stackTraces = false) {o n0 : Nat} (hk : K o = some (21, n0)) (ho : o < zNC) : zMet l G yJ18_ordinal (ws_ yJ18_ordinal cJ18_ordinal 1 (some .int)) 0 0 0 0 [.ref o] K F I L (zQe (.inl (some (.int (nI n0)))) K F I L) := by
  refine zMet.of (by decide +kernel) htr (Nat.le_of_ble_eq_true rfl) ?_
  change zW l G MJ18_ordinal 0 0 0 0 0 [(0, .ref o)] [] K F I L (zQe (.inl (some (.int (nI n0)))) K F I L)
  refine z_aload_n (n := 1) dJ18_ordinal_0 rfl 0 rfl rfl ?_
  intro p e R s m args below meth c9 H locs cells slots ls ad ad0 K0 hc9 hR hP hE hw hl
  obtain ⟨cf, k, fi, f, cell, h1, h2, h3, h4, h5, h6⟩ := (hP.enumV hk ho).2
  refine W.getf hc9.1 hc9.2.1 hc9.2.2.2.1 (hc9.2.2.2.2.1 _ q2336) h1 h2 h3 h4 (v := .int (nI n0)) h5 rfl rfl dJ18_ordinal_1 ?_
  exact z_iret (M := MJ18_ordinal) (pc := 4) (fr := 0) (lo := 0) (mc := 0) (ms := 0) (Q := zQe (.inl (some (.int (nI n0)))) K F I L) dJ18_ordinal_4 rfl rfl ⟨rfl, rfl, rfl, rfl, rfl⟩ p e R s m args below meth c9 H locs cells slots ls ad ad0 K0 hc9 hR hP hE ⟨hw.1, trivial, trivial⟩ hl
theorem z_ordinal {idx o n0 : Nat} (htr : l.stackTraces = false) (hd : decode M.2.1 pc = .ok (.invokevirtual idx, 3)) (hn : pc + 3 = n) (hq1 : Cond.methodLink M.1 idx ⟨"SableCrown$Value", "ordinal", "()I"⟩ ∈ lw_all) (hk : K o = some (21, n0)) (ho : o < zNC) (hst : (st.map fun v => v.category).sum ≤ 8) (hfr : 1 ≤ fr) (hlo : 20 ≤ lo)
    (kk : zW l G M fr lo mc ms n lv (.int (nI n0) :: st) K F I L Q) : zW l G M fr lo mc ms pc lv (.ref o :: st) K F I L Q := by
  intro p e R s m args below meth c9 H locs cells slots ls ad ad0 K0 hc9 hR hP hE hw hl
  have hG : GoodIn lw_all (va_wsU M.1 idx "SableCrown$Value" "java/lang/Enum" ⟨"SableCrown$Value", "ordinal", "()I"⟩ yJ18_ordinal (ws_ yJ18_ordinal cJ18_ordinal 1 (some .int))) := by
    refine lw_app ?_ (lw_meth q857)
    intro w hw
    simp only [List.mem_cons, List.not_mem_nil, or_false] at hw
    rcases hw with e | e | e | e | e
    · rw [e]; exact hq1
    · rw [e]; exact q853
    · rw [e]; exact q855
    · rw [e]; exact q856
    · rw [e]; exact q127
  exact zRun_W (mc1 := 0) (ms1 := 0) (mc2 := mc) (ms2 := ms) (a := [Value.ref (ad o)].toArray) (vx_runU (As := []) (rest := st.map (zc ad)) (b := ad o) (C := "SableCrown$Value") ⟨hc9.1, hc9.2.1, hc9.2.2.1, hc9.2.2.2.1, hc9.2.2.2.2.1⟩ (C_J18_ordinal htr hk ho ad) (va_cwA 0 hc9.2.2.2.2.1 hG rfl rfl rfl (hP.2.2.2.2.2.2.2.1 _ q854 rfl) ⟨by decide +kernel, by decide +kernel, by decide +kernel⟩ ⟨by show 0 + 1 ≤ R.frames; omega, by show 8 + (1 + 11) + 0 ≤ R.locals; omega⟩) ⟨zRep.blind, (hP.enumV hk ho).1, zPre (p := p) (e := e) (As := [.ref o]) hP ⟨hw.2.1, trivial⟩⟩ rfl rfl hl.1 rfl (zroom hst) hd ⟨by omega, by omega⟩) hn hc9 hR (by omega) (by omega) hP hE ⟨hw.1, hw.2.2⟩ hl (zQe_kk (v := some (.int (nI n0))) kk) zQe_kx
end Z8
