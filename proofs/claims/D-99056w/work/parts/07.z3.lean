/-! Z3: the store's laws, and zW's rules that touch the heap -/
def zdf (ty : FieldType) : Bool := match ty with
  | .float => false
  | .double => false
  | _ => true
def zOk (c : Nat) : Prop := ∃ q : vw_C, zCl[c]? = some q ∧ c < 18 ∧ zN c = q.2.2 ∧ (∀ w ∈ u_ws q.1 q.2.1 q.2.2, w ∈ lw_all) ∧ (∀ k, k < q.2.2 → parseFieldDescriptor (q.2.1 k).2.2.1 = some (zTy c k)) ∧ (∀ a, a < q.2.2 → ∀ b, b < q.2.2 → a ≠ b → (q.2.1 a).2.1 ≠ (q.2.1 b).2.1) ∧ ∀ k, k < q.2.2 → zdf (zTy c k) = true
theorem zok0 : zOk 0 := ⟨(RX1, TX1, 12), rfl, by decide, rfl, in_X1, tyX1_ok, nmX1, by decide +kernel⟩
theorem zok1 : zOk 1 := ⟨(RX2, TX2, 11), rfl, by decide, rfl, in_X2, tyX2_ok, nmX2, by decide +kernel⟩
theorem zok2 : zOk 2 := ⟨(RJ2, TJ2, 3), rfl, by decide, rfl, in_J2, tyJ2_ok, nmJ2, by decide +kernel⟩
theorem zok3 : zOk 3 := ⟨(RX3, TX3, 1), rfl, by decide, rfl, in_X3, tyX3_ok, nmX3, by decide +kernel⟩
theorem zok4 : zOk 4 := ⟨(RX5, TX5, 8), rfl, by decide, rfl, in_X5, tyX5_ok, nmX5, by decide +kernel⟩
theorem zok5 : zOk 5 := ⟨(RX6, TX6, 13), rfl, by decide, rfl, in_X6, tyX6_ok, nmX6, by decide +kernel⟩
theorem zok6 : zOk 6 := ⟨(RX7, TX7, 63), rfl, by decide, rfl, in_X7, tyX7_ok, nmX7, by decide +kernel⟩
theorem zok7 : zOk 7 := ⟨(RX8, TX8, 9), rfl, by decide, rfl, in_X8, tyX8_ok, nmX8, by decide +kernel⟩
theorem zok8 : zOk 8 := ⟨(RX9, TX9, 8), rfl, by decide, rfl, in_X9, tyX9_ok, nmX9, by decide +kernel⟩
theorem zok9 : zOk 9 := ⟨(RX10, TX10, 4), rfl, by decide, rfl, in_X10, tyX10_ok, nmX10, by decide +kernel⟩
theorem zok10 : zOk 10 := ⟨(RX11, TX11, 3), rfl, by decide, rfl, in_X11, tyX11_ok, nmX11, by decide +kernel⟩
theorem zok11 : zOk 11 := ⟨(RX13, TX13, 1), rfl, by decide, rfl, in_X13, tyX13_ok, nmX13, by decide +kernel⟩
theorem zok12 : zOk 12 := ⟨(RX14, TX14, 1), rfl, by decide, rfl, in_X14, tyX14_ok, nmX14, by decide +kernel⟩
theorem zok13 : zOk 13 := ⟨(RX15, TX15, 3), rfl, by decide, rfl, in_X15, tyX15_ok, nmX15, by decide +kernel⟩
theorem zok14 : zOk 14 := ⟨(RX16, TX16, 1), rfl, by decide, rfl, in_X16, tyX16_ok, nmX16, by decide +kernel⟩
theorem zok15 : zOk 15 := ⟨(RJ9, TJ9, 4), rfl, by decide, rfl, in_J9, tyJ9_ok, nmJ9, by decide +kernel⟩
theorem zok16 : zOk 16 := ⟨(RJ8, TJ8, 4), rfl, by decide, rfl, in_J8, tyJ8_ok, nmJ8, by decide +kernel⟩
theorem zok17 : zOk 17 := ⟨(RJ17, TJ17, 1), rfl, by decide, rfl, in_J17, tyJ17_ok, nmJ17, by decide +kernel⟩
/-- the pool place idx of the class own is a link to the field k of class number c -/
def zFld (own : String) (idx c k : Nat) : Prop := ∃ q : vw_C, zCl[c]? = some q ∧ k < q.2.2 ∧ ∃ ref : String, (Cond.fieldLink own idx ref (q.2.1 k).2.1 (q.2.1 k).2.2.1 ∈ lw_all ∨ ∃ host, Cond.fieldLinkNest own idx ref (q.2.1 k).2.1 (q.2.1 k).2.2.1 host ∈ lw_tbl) ∧ (ref = (q.2.1 k).1 ∨ Cond.sameField ref (q.2.1 k).1 (q.2.1 k).2.1 (q.2.1 k).2.2.1 ∈ lw_all)
def zu {α : Type} (f : Nat → Nat → α) (o k : Nat) (x : α) : Nat → Nat → α := fun a b => if a = o ∧ b = k then x else f a b
def zu1 {α : Type} (f : Nat → α) (o : Nat) (x : α) : Nat → α := fun a => if a = o then x else f a
theorem zu_same {α : Type} {f : Nat → Nat → α} {o k : Nat} {x : α} : zu f o k x o k = x := by simp [zu]
theorem zu_off {α : Type} {f : Nat → Nat → α} {o k a b : Nat} {x : α} (h : ¬ (a = o ∧ b = k)) : zu f o k x a b = f a b := by simp only [zu, if_neg h]
theorem zu_row {α : Type} {f : Nat → Nat → α} {o k a : Nat} {x : α} (h : a ≠ o) : zu f o k x a = f a := by
  funext b; exact zu_off fun q => h q.1
theorem zu1_same {α : Type} {f : Nat → α} {o : Nat} {x : α} : zu1 f o x o = x := by simp [zu1]
theorem zu1_off {α : Type} {f : Nat → α} {o a : Nat} {x : α} (h : a ≠ o) : zu1 f o x a = f a := by simp only [zu1, if_neg h]
/-- a field or array place that holds an int -/
def zisI (ty : FieldType) : Bool := match ty with
  | .int => true
  | .byte => true
  | .boolean => true
  | .char => true
  | .short => true
  | _ => false
def zisR (ty : FieldType) : Bool := match ty with
  | .object _ => true
  | .array _ => true
  | _ => false
theorem zfv_I {ad : Nat → Nat} {F : zFd} {I : zId} {L : zLd} {ty : FieldType} {o k : Nat} (h : zisI ty = true) : zfv ad F I L ty o k = .int (I o k) := by
  cases ty <;> first | rfl | cases h
theorem zfv_R {ad : Nat → Nat} {F : zFd} {I : zId} {L : zLd} {ty : FieldType} {o k : Nat} (h : zisR ty = true) : zfv ad F I L ty o k = va_rf ((F o k).map ad) := by
  cases ty <;> first | rfl | cases h
theorem zfv_eq {ad ad' : Nat → Nat} {F F' : zFd} {I I' : zId} {L L' : zLd} {ty : FieldType} {o k : Nat} (h1 : (F' o k).map ad' = (F o k).map ad) (h2 : I' o k = I o k) (h3 : L' o k = L o k) : zfv ad' F' I' L' ty o k = zfv ad F I L ty o k := by
  cases ty <;> simp only [zfv, h1, h2, h3]
theorem zel_eq {ad ad' : Nat → Nat} {F F' : zFd} {I I' : zId} {L L' : zLd} {t o j : Nat} (h1 : (F' o j).map ad' = (F o j).map ad) (h2 : I' o j = I o j) (h3 : L' o j = L o j) : zel ad' F' I' L' t o j = zel ad F I L t o j := by
  unfold zel
  split <;> simp only [h1, h2, h3]
theorem zmap_ag {K : zKd} {ad ad' : Nat → Nat} {r : Option Nat} (h : ∀ i, K i ≠ none → ad' i = ad i) (hr : ∀ j, r = some j → K j ≠ none) : r.map ad' = r.map ad := by
  cases r with
  | none => rfl
  | some j => exact congrArg some (h j (hr j rfl))
theorem zc_ag {K : zKd} {ad ad' : Nat → Nat} {v : Value} (h : ∀ i, K i ≠ none → ad' i = ad i) (hv : zwv K v) : zc ad' v = zc ad v := by
  cases v <;> first | rfl | exact congrArg Value.ref (h _ hv)
theorem zst_ag {K : zKd} {ad ad' : Nat → Nat} (h : ∀ i, K i ≠ none → ad' i = ad i) : ∀ {st : List Value}, zws K st → st.map (zc ad') = st.map (zc ad) := by
  intro st
  induction st with
  | nil => intro _; rfl
  | cons v r ih => intro hs; rw [List.map_cons, List.map_cons, zc_ag h hs.1, ih hs.2]
theorem zlv_ag {K : zKd} {ad ad' : Nat → Nat} (h : ∀ i, K i ≠ none → ad' i = ad i) {lv : List (Nat × Value)} (hl : ∀ q ∈ lv, zwv K q.2) : (lv.map fun q => (q.1, zc ad' q.2)) = lv.map fun q => (q.1, zc ad q.2) :=
  List.map_congr_left fun q hq => by rw [zc_ag h (hl q hq)]
theorem zwv_mono {K K' : zKd} (h : ∀ i, K i ≠ none → K' i ≠ none) {v : Value} (hv : zwv K v) : zwv K' v := by
  cases v <;> first | trivial | exact h _ hv
theorem zws_mono {K K' : zKd} (h : ∀ i, K i ≠ none → K' i ≠ none) : ∀ {st : List Value}, zws K st → zws K' st := by
  intro st
  induction st with
  | nil => intro _; trivial
  | cons v r ih => intro hs; exact ⟨zwv_mono h hs.1, ih hs.2⟩
theorem zwf_mono {K K' : zKd} (h : ∀ i, K i ≠ none → K' i ≠ none) {lv : List (Nat × Value)} {st : List Value} (hs : zwf K lv st) : zwf K' lv st :=
  ⟨fun q hq => zwv_mono h (hs.1 q hq), zws_mono h hs.2⟩
theorem zNw.warm {s U : State} (hW : s.WarmedH U.vm) (h : zNw s) : zNw U := by
  refine ⟨fun w hw hm => ?_, va_AO.moved hW.alike h.2.1, va_AO.moved hW.alike h.2.2.1, va_Nc.moved hW.alike h.2.2.2.1, Cond.privateMethod_warm hW h.2.2.2.2⟩
  have h1 := h.1 w hw hm
  cases w <;> first
    | exact va_Nw.warmF hW h1
    | exact va_Nw.warmM hW h1
    | exact va_Nw.warmC hW h1
    | exact va_Nw.warmD hW h1
    | cases hm
theorem zCon.warm {G : zGt} {s U : State} (hW : s.WarmedH U.vm) (h : zCon G s) : zCon G U := by
  obtain ⟨h1, h2, h3, h4, h5, h6, h7, h8, h9, h10⟩ := h
  refine ⟨fun o ho c n hk => ?_, h2, fun q hq => va_Z.moved hW.alike (h3 q hq), fun q hq => vk_R.warm hW (h4 q hq), h5, vx_Zq.moved hW.alike h6, vx_Zq.moved hW.alike h7, va_Mi.moved hW.alike h8, h9, fun q hq => va_Z.moved hW.alike (h10 q hq)⟩
  obtain ⟨g1, g2⟩ := h1 o ho c n hk
  refine ⟨g1, ?_⟩
  rcases g2 with ⟨a, q, b1, b2, b3⟩ | ⟨a, b⟩ | ⟨a, b, b2⟩ | ⟨t, a, a2, a3, b⟩
  · exact Or.inl ⟨a, q, b1, va_O.moved hW.alike b2, fun k hk => va_OF.moved hW.alike (b3 k hk)⟩
  · exact Or.inr (Or.inl ⟨a, fun e => va_O.moved hW.alike (b e)⟩)
  · exact Or.inr (Or.inr (Or.inl ⟨a, va_O.moved hW.alike b, va_OF.moved hW.alike b2⟩))
  · exact Or.inr (Or.inr (Or.inr ⟨t, a, a2, a3, va_T.moved hW.alike b⟩))
theorem zRep.warm {G : zGt} {ad : Nat → Nat} {K : zKd} {F : zFd} {I : zId} {L : zLd} {s U : State} {H : Heap} {locs locs' : List Loc} (hW : s.WarmedH U.vm) (h : zRep G ad K F I L s H locs) (hl : ∀ q ∈ locs', zA G q.base) : zRep G ad K F I L U H locs' := by
  obtain ⟨h1, h2, h3, h4, h5, h6, h7, h8⟩ := h
  exact ⟨h1, h2, h3, h4, ⟨h5.1, h5.2.1, hl⟩, va_K.moved hW.alike h6, h7.warm hW, h8.warm hW⟩
theorem zRep.hp {G : zGt} {ad : Nat → Nat} {K : zKd} {F : zFd} {I : zId} {L : zLd} {s : State} {H : Heap} {locs : List Loc} (h : zRep G ad K F I L s H locs) : zHp G ad K F I L H :=
  ⟨h.1, h.2.1, h.2.2.1, h.2.2.2.1, h.2.2.2.2.1.1, h.2.2.2.2.1.2.1⟩
theorem zRep.ok {G : zGt} {ad : Nat → Nat} {K : zKd} {F : zFd} {I : zId} {L : zLd} {s : State} {H : Heap} {locs : List Loc} (h : zRep G ad K F I L s H locs) {o c n : Nat} (ho : zNC ≤ o) (hk : K o = some (c, n)) : zat G.1 ad K F I L H o ∧ zA G (ad o) := h.1 o ho (by rw [hk]; exact fun q => by cases q)
theorem zCl_lt {c : Nat} {q : vw_C} (h : zCl[c]? = some q) : c < 18 := (List.getElem?_eq_some_iff.mp h).1
/-- a field of the object o, as the machine reads it -/
theorem zRep.field {G : zGt} {ad : Nat → Nat} {K : zKd} {F : zFd} {I : zId} {L : zLd} {s : State} {H : Heap} {locs : List Loc} {args : Array Value} (h : zRep G ad K F I L s H locs) (hts : ∀ w ∈ lw_all, w.before args s = true) {o c n k : Nat} {q : vw_C} (hk : K o = some (c, n)) (hc : zCl[c]? = some q) (hin : ∀ w ∈ u_ws q.1 q.2.1 q.2.2, w ∈ lw_all) (hN : zN c = q.2.2) (hk2 : k < q.2.2) (hok : zNC ≤ o ∨ zkf c k = true) :
    ∃ (cf : ClassId) (kf : Class) (fi : Nat) (f : Field) (cell : Cell), s.fieldFound? (q.2.1 k).1 (q.2.1 k).2.1 (q.2.1 k).2.2.1 = some (cf, kf, fi, f) ∧ f.isStatic = false ∧ H[ad o]? = some cell ∧ cell.vm ≠ .unknown ∧ cell.slots[f.slot]? = some (zfv ad F I L (zTy c k) o k) := by
  obtain ⟨h1, h2, h3, h4, h5, h6, h7, h8⟩ := h
  have hlt := zCl_lt hc
  rcases Nat.lt_or_ge o zNC with ho | ho
  · obtain ⟨e1, e2, e3, e4⟩ := h4 o ho
    have hzk : zkf c k = true := by
      rcases hok with g | g
      · exact absurd ho (Nat.not_lt.mpr g)
      · exact g
    obtain ⟨g1, g2⟩ := h7.1 o ho c n (by rw [← e1]; exact hk)
    rcases g2 with ⟨a, q', b1, b2, b3⟩ | ⟨a, b⟩ | ⟨a, b, b2⟩ | ⟨t, a, a2, a3, b⟩
    · cases Option.some.inj (hc.symm.trans b1)
      obtain ⟨cf, kf, fi, f, cell, z1, z2, z3, z4, z5, z6⟩ := (b3 k hzk).kept h5.2.1
      refine ⟨cf, kf, fi, f, cell, z1, z2, by rw [e4]; exact z3, z4, ?_⟩
      rw [z5]
      have hLL : L o k = L o k := rfl
      refine congrArg some ?_
      have hR : (F o k).map ad = (G.2.2.2.2.1 o k).map G.2.2.1 := by
        rw [← e2]
        cases hr : F o k with
        | none => rfl
        | some j => exact congrArg some (h4 j (h7.2.1 o ho k j (by rw [← e2]; exact hr))).2.2.2
      have hz : zisI (zTy c k) = true ∨ zisR (zTy c k) = true := by
        have : (c = 15 ∧ k = 0) ∨ (c = 15 ∧ k = 1) ∨ (c = 17 ∧ k = 0) := by
          unfold zkf at hzk
          split at hzk <;> simp_all
        rcases this with ⟨rfl, rfl⟩ | ⟨rfl, rfl⟩ | ⟨rfl, rfl⟩
        · exact Or.inr rfl
        · exact Or.inl rfl
        · exact Or.inl rfl
      rcases hz with hz | hz
      · rw [zfv_I hz, zfv_I hz, e3]
      · rw [zfv_R hz, zfv_R hz, hR]
    · omega
    · omega
    · omega
  · obtain ⟨z, -⟩ := h1 o ho (by rw [hk]; exact fun g => by cases g)
    rcases z c n hk with ⟨-, cell, q1, q2, q3, q4⟩ | ⟨t, a, -⟩
    · obtain ⟨hS, hfc, kC, hkC, hkind⟩ := h6.1 c q hc
      obtain ⟨cf, kf, fi, f, hi, hsl⟩ := hS k hk2
      refine ⟨cf, kf, fi, f, cell, hi, (u_facts hfc hkC (u_lays hts hin hk2) hi).1, q1, by rw [q3]; exact fun g => (by cases g), ?_⟩
      rw [hsl]
      exact q4 k (by rw [hN]; exact hk2)
    · omega
/-- an array, as the machine reads it -/
theorem zRep.arr {G : zGt} {ad : Nat → Nat} {K : zKd} {F : zFd} {I : zId} {L : zLd} {s : State} {H : Heap} {locs : List Loc} (h : zRep G ad K F I L s H locs) {o n : Nat} (t : Nat) (ht : t < 8) (hk : K o = some (64 + t, n)) :
    ∃ cell : Cell, H[ad o]? = some cell ∧ s.isArrayOf cell (zAr t) ∧ cell.vm ≠ .unknown ∧ n ≤ cell.slots.size ∧ cell.slots.size.toInt32 = Int32.ofNat n ∧ ∀ j, j < n → cell.slots[j]? = some (zel ad F I L t o j) := by
  obtain ⟨h1, h2, h3, h4, h5, h6, h7, h8⟩ := h
  rcases Nat.lt_or_ge o zNC with ho | ho
  · obtain ⟨e1, e2, e3, e4⟩ := h4 o ho
    obtain ⟨g1, g2⟩ := h7.1 o ho (64 + t) n (by rw [← e1]; exact hk)
    rcases g2 with ⟨a, q', b1, b2, b3⟩ | ⟨a, b⟩ | ⟨a, b, b2⟩ | ⟨t', a, a2, a3, b⟩
    · omega
    · omega
    · omega
    · have : t' = t := by omega
      subst this
      obtain ⟨cell, z1, z2, z3, z4, z5, z6, z7⟩ := b.kept h5.2.1
      refine ⟨cell, by rw [e4]; exact z1, z2, z3, z4, z5, fun j hj => ?_⟩
      rw [z6 j hj]
      refine congrArg some ?_
      have hR : (F o j).map ad = (G.2.2.2.2.1 o j).map G.2.2.1 := by
        rw [← e2]
        cases hr : F o j with
        | none => rfl
        | some x => exact congrArg some (h4 x (h7.2.1 o ho j x (by rw [← e2]; exact hr))).2.2.2
      unfold zel
      split
      · exact absurd rfl a3
      · rw [hR]
      · rw [hR]
      · rw [hR]
      · rw [hR]
      · rw [e3]
  · obtain ⟨z, -⟩ := h1 o ho (by rw [hk]; exact fun g => by cases g)
    rcases z _ n hk with ⟨g, -⟩ | ⟨t', a, a2, b⟩
    · omega
    · have : t' = t := by omega
      subst this
      refine ⟨_, b, ?_, fun g => (by cases g), Nat.le_of_eq (arrV_size _ _ _).symm, congrArg Int32.ofNat (arrV_size _ _ _), fun j hj => arrV_read _ _ hj⟩
      have : (zTys G.1)[t']? = some (G.1.2.2 t', zAr t') := by
        match t', a2 with
        | 0, _ => rfl
        | 1, _ => rfl
        | 2, _ => rfl
        | 3, _ => rfl
        | 4, _ => rfl
        | 5, _ => rfl
        | 6, _ => rfl
      exact (h6.2 t' _ this).1 n _
/-- the cell of the number o is written -/
theorem zRep.write {G : zGt} {ad : Nat → Nat} {K : zKd} {F F' : zFd} {I I' : zId} {L L' : zLd} {s : State} {H H' : Heap} {locs l2 : List Loc} (h : zRep G ad K F I L s H locs) {o : Nat} (ho : zNC ≤ o) (hK : K o ≠ none) (hz : H'.size = H.size) (hq : ∀ q : Nat, q ≠ ad o → H'[q]? = H[q]?)
    (hoff : ∀ a, a ≠ o → F' a = F a ∧ I' a = I a ∧ L' a = L a) (hat : zat G.1 ad K F' I' L' H' o) (hF : ∀ k j, F' o k = some j → K j ≠ none) (hl : ∀ z ∈ l2, z.base = ad o) : zRep G ad K F' I' L' s H' (locs ++ l2) := by
  obtain ⟨h1, h2, h3, h4, h5, h6, h7, h8⟩ := h
  have hA := (h1 o ho hK).2
  refine ⟨fun a ha hk => ?_, h2, fun a k j hk hf => ?_, fun a ha => ?_, ⟨by rw [hz]; exact h5.1, fun q g1 g2 => ?_, fun z hz => ?_⟩, h6, h7, h8⟩
  · by_cases e : a = o
    · subst e; exact ⟨hat, hA⟩
    · refine ⟨fun c n hc => ?_, (h1 a ha hk).2⟩
      have hne : ad a ≠ ad o := fun g => e (h2 a o ha ho hk hK g)
      obtain ⟨e1, e2, e3⟩ := hoff a e
      rcases (h1 a ha hk).1 c n hc with ⟨g1, g2⟩ | ⟨t, g1, g2, g3⟩
      · exact Or.inl ⟨⟨g1.1, g1.2.kept (hq _ hne)⟩, (g2.kept (hq _ hne)).to fun k _ => (zfv_eq (by rw [e1]) (by rw [e2]) (by rw [e3])).symm⟩
      · refine Or.inr ⟨t, g1, g2, ?_⟩
        rw [hq _ hne, g3]
        refine congrArg (fun f => some (arrV _ _ f)) (funext fun j => (zel_eq (by rw [e1]) (by rw [e2]) (by rw [e3])).symm)
  · by_cases e : a = o
    · subst e; exact hF k j hf
    · rw [(hoff a e).1] at hf
      exact h3 a k j hk hf
  · obtain ⟨e1, e2, e3, e4⟩ := h4 a ha
    obtain ⟨f1, f2, -⟩ := hoff a (fun e => by omega)
    exact ⟨e1, by rw [f1]; exact e2, by rw [f2]; exact e3, e4⟩
  · rw [hq q (fun e => g2 (by rw [e]; exact hA))]
    exact h5.2.1 q g1 g2
  · rcases List.mem_append.mp hz with g | g
    · exact h5.2.2 z g
    · rw [hl z g]; exact hA
/-- a cell is made: the number o is told of it -/
theorem zRep.push {G : zGt} {ad : Nat → Nat} {K : zKd} {F F' : zFd} {I I' : zId} {L L' : zLd} {s : State} {H H' : Heap} {locs : List Loc} (h : zRep G ad K F I L s H locs) {o : Nat} (ho : zNC ≤ o) (hK : K o = none) {c n : Nat} (hz : H.size ≤ H'.size) (hq : ∀ q : Nat, q < H.size → H'[q]? = H[q]?)
    (hoff : ∀ a, a ≠ o → F' a = F a ∧ I' a = I a ∧ L' a = L a) (hat : zat G.1 (zu1 ad o H.size) (zu1 K o (some (c, n))) F' I' L' H' o) (hF : ∀ k j, F' o k = some j → K j ≠ none ∨ j = o) : zRep G (zu1 ad o H.size) (zu1 K o (some (c, n))) F' I' L' s H' locs := by
  obtain ⟨h1, h2, h3, h4, h5, h6, h7, h8⟩ := h
  have hlt : ∀ a, zNC ≤ a → K a ≠ none → ad a < H.size := by
    intro a ha hk
    cases hc : K a with
    | none => exact absurd hc hk
    | some q =>
      obtain ⟨c', n'⟩ := q
      rcases (h1 a ha hk).1 c' n' hc with ⟨-, cell, g, -⟩ | ⟨t, -, -, g⟩
      · exact (Array.getElem?_eq_some_iff.mp g).1
      · exact (Array.getElem?_eq_some_iff.mp g).1
  have hag : ∀ a, K a ≠ none → zu1 ad o H.size a = ad a := fun a ha => zu1_off fun e => ha (by rw [e]; exact hK)
  have hAn : zA G H.size := h5.1
  refine ⟨fun a ha hk => ?_, fun i j hi hj ki kj e => ?_, fun a k j hk hf => ?_, fun a ha => ?_, ⟨Nat.le_trans h5.1 hz, fun q g1 g2 => ?_, h5.2.2⟩, h6, h7, h8⟩
  · by_cases e : a = o
    · subst e; exact ⟨hat, by rw [zu1_same]; exact hAn⟩
    · rw [zu1_off e] at hk
      refine ⟨fun c' n' hc => ?_, by rw [zu1_off e]; exact (h1 a ha hk).2⟩
      rw [zu1_off e] at hc
      obtain ⟨e1, e2, e3⟩ := hoff a e
      have hm : ∀ k, (F' a k).map (zu1 ad o H.size) = (F a k).map ad := fun k => by
        rw [e1]; exact zmap_ag hag (fun j hj => h3 a k j hk hj)
      rw [zu1_off e]
      rcases (h1 a ha hk).1 c' n' hc with ⟨g1, g2⟩ | ⟨t, g1, g2, g3⟩
      · exact Or.inl ⟨⟨g1.1, g1.2.kept (hq _ (hlt a ha hk))⟩, (g2.kept (hq _ (hlt a ha hk))).to fun k _ => (zfv_eq (hm k) (by rw [e2]) (by rw [e3])).symm⟩
      · refine Or.inr ⟨t, g1, g2, ?_⟩
        rw [hq _ (hlt a ha hk), g3]
        refine congrArg (fun f => some (arrV _ _ f)) (funext fun j => (zel_eq (hm j) (by rw [e2]) (by rw [e3])).symm)
  · by_cases e1 : i = o <;> by_cases e2 : j = o
    · rw [e1, e2]
    · subst e1
      rw [zu1_same, zu1_off e2] at e
      rw [zu1_off e2] at kj
      have := hlt j hj kj
      omega
    · subst e2
      rw [zu1_same, zu1_off e1] at e
      rw [zu1_off e1] at ki
      have := hlt i hi ki
      omega
    · rw [zu1_off e1, zu1_off e2] at e
      rw [zu1_off e1] at ki
      rw [zu1_off e2] at kj
      exact h2 i j hi hj ki kj e
  · by_cases e : a = o
    · subst e
      rcases hF k j hf with g | g
      · by_cases e2 : j = a
        · rw [e2, zu1_same]; exact fun g => by cases g
        · rw [zu1_off e2]; exact g
      · rw [g, zu1_same]; exact fun g => by cases g
    · rw [zu1_off e] at hk
      rw [(hoff a e).1] at hf
      by_cases e2 : j = o
      · rw [e2, zu1_same]; exact fun g => by cases g
      · rw [zu1_off e2]; exact h3 a k j hk hf
  · have hne : a ≠ o := fun e => by omega
    obtain ⟨e1, e2, e3, e4⟩ := h4 a ha
    obtain ⟨f1, f2, -⟩ := hoff a hne
    exact ⟨by rw [zu1_off hne]; exact e1, by rw [f1]; exact e2, by rw [f2]; exact e3, by rw [zu1_off hne]; exact e4⟩
  · rw [hq q (Nat.lt_of_lt_of_le g1 h5.1)]
    exact h5.2.1 q g1 g2
theorem zExt.push {K0 K : zKd} {ad0 ad : Nat → Nat} {o : Nat} {x : Option (Nat × Nat)} {a : Nat} (h : zExt K0 ad0 K ad) (hK : K o = none) : zExt K0 ad0 (zu1 K o x) (zu1 ad o a) := fun i hi => by
  obtain ⟨e1, e2⟩ := h i hi
  have hne : i ≠ o := fun e => hi (by rw [← e1, e]; exact hK)
  exact ⟨by rw [zu1_off hne]; exact e1, by rw [zu1_off hne]; exact e2⟩
theorem zExt.refl {K : zKd} {ad : Nat → Nat} : zExt K ad K ad := fun _ _ => ⟨rfl, rfl⟩
theorem zExt.trans {K0 K1 K2 : zKd} {a0 a1 a2 : Nat → Nat} (h : zExt K0 a0 K1 a1) (g : zExt K1 a1 K2 a2) : zExt K0 a0 K2 a2 := fun i hi => by
  obtain ⟨e1, e2⟩ := h i hi
  obtain ⟨f1, f2⟩ := g i (by rw [e1]; exact hi)
  exact ⟨f1.trans e1, f2.trans e2⟩
theorem zExt.mono {K0 K1 : zKd} {a0 a1 : Nat → Nat} (h : zExt K0 a0 K1 a1) : ∀ i, K0 i ≠ none → K1 i ≠ none := fun i hi => by rw [(h i hi).1]; exact hi
theorem zExt.ag {K0 K1 : zKd} {a0 a1 : Nat → Nat} (h : zExt K0 a0 K1 a1) : ∀ i, K0 i ≠ none → a1 i = a0 i := fun i hi => (h i hi).2
