/-! Z1: an abstract store (objects by numbers, not by addresses), and the walking judgement zW over it -/
abbrev zKd : Type := Nat → Option (Nat × Nat)
abbrev zFd : Type := Nat → Nat → Option Nat
abbrev zId : Type := Nat → Nat → Int32
abbrev zLd : Type := Nat → Nat → Int64
/-- own class, code, number of locals, return type, name, table of handlers -/
abbrev zM : Type := String × ByteArray × Nat × Option FieldType × String × List (Nat × Nat × Nat × Nat)
abbrev zQt : Type := (Option Value ⊕ (String × Nat)) → zKd → zFd → zId → zLd → Prop
/-- class numbers and slots, array classes -/
abbrev zDt : Type := (Nat → ClassId) × (Nat → Nat → Nat) × (Nat → ClassId)
/-- .. the heap at the law's start; the constants' addresses, kinds, contents -/
abbrev zGt : Type := zDt × Heap × (Nat → Nat) × zKd × zFd × zId
/-- numbers below this are constants -/
abbrev zNC : Nat := 600
abbrev zCl : List vw_C := [(RX1, TX1, 12), (RX2, TX2, 11), (RJ2, TJ2, 3), (RX3, TX3, 1), (RX5, TX5, 8), (RX6, TX6, 13), (RX7, TX7, 63), (RX8, TX8, 9), (RX9, TX9, 8), (RX10, TX10, 4), (RX11, TX11, 3), (RX13, TX13, 1), (RX14, TX14, 1), (RX15, TX15, 3), (RX16, TX16, 1), (RJ9, TJ9, 4), (RJ8, TJ8, 4), (RJ17, TJ17, 1)]
/-- a field's type, by class number and place -/
def zTy (c : Nat) : Nat → FieldType := match c with
  | 0 => tyX1
  | 1 => tyX2
  | 2 => tyJ2
  | 3 => tyX3
  | 4 => tyX5
  | 5 => tyX6
  | 6 => tyX7
  | 7 => tyX8
  | 8 => tyX9
  | 9 => tyX10
  | 10 => tyX11
  | 11 => tyX13
  | 12 => tyX14
  | 13 => tyX15
  | 14 => tyX16
  | 15 => tyJ9
  | 16 => tyJ8
  | _ => tyJ17
def zN (c : Nat) : Nat := match zCl[c]? with
  | some q => q.2.2
  | none => 0
/-- element types of arrays -/
def zAr (t : Nat) : FieldType := match t with
  | 0 => .int
  | 1 => .byte
  | 2 => .boolean
  | 3 => .long
  | 4 => .object "java/lang/Object"
  | 5 => .object "java/lang/String"
  | 6 => .object "SableCrown$Value"
  | _ => .object "java/lang/Integer"
def zTys (D : zDt) : List (ClassId × FieldType) := [(D.2.2 0, .int), (D.2.2 1, .byte), (D.2.2 2, .boolean), (D.2.2 3, .long), (D.2.2 4, .object "java/lang/Object"), (D.2.2 5, .object "java/lang/String"), (D.2.2 6, .object "SableCrown$Value")]
def zc (ad : Nat → Nat) (v : Value) : Value := match v with
  | .ref i => .ref (ad i)
  | v => v
def zrf (r : Option Nat) : Value := match r with
  | none => .null
  | some i => .ref i
/-- an array's element of element type t -/
def zel (ad : Nat → Nat) (F : zFd) (I : zId) (L : zLd) (t o j : Nat) : Value := match t with
  | 3 => .long (L o j)
  | 4 => va_rf ((F o j).map ad)
  | 5 => va_rf ((F o j).map ad)
  | 6 => va_rf ((F o j).map ad)
  | 7 => va_rf ((F o j).map ad)
  | _ => .int (I o j)
/-- a field's value -/
def zfv (ad : Nat → Nat) (F : zFd) (I : zId) (L : zLd) (ty : FieldType) (o k : Nat) : Value := match ty with
  | .object _ => va_rf ((F o k).map ad)
  | .array _ => va_rf ((F o k).map ad)
  | .long => .long (L o k)
  | _ => .int (I o k)
abbrev zDD (D : zDt) : va_G := (D.1, D.2.1)
/-- the addresses that the run may write -/
def zA (G : zGt) : Nat → Prop := fun q => G.2.1.size ≤ q
/-- a Fault's monitor is free -/
def zmon (H : Heap) (a c : Nat) : Prop := c = 8 → ∃ cell : Cell, H[a]? = some cell ∧ cell.monitor.owner = none ∧ cell.monitor.count = 0
theorem zmon.kept {H H' : Heap} {a c : Nat} (h : zmon H a c) (e : H'[a]? = H[a]?) : zmon H' a c := fun g => by
  obtain ⟨cell, h1, h2⟩ := h g
  exact ⟨cell, by rw [e]; exact h1, h2⟩
/-- the cell of the number o -/
def zat (D : zDt) (ad : Nat → Nat) (K : zKd) (F : zFd) (I : zId) (L : zLd) (H : Heap) (o : Nat) : Prop :=
  ∀ c n, K o = some (c, n) → ((c < 18 ∧ zmon H (ad o) c) ∧ t_OB (ad o) (D.1 c) (zN c) (D.2.1 c) H (fun k => zfv ad F I L (zTy c k) o k)) ∨
    (∃ t, c = 64 + t ∧ t < 7 ∧ H[ad o]? = some (arrV (D.2.2 t) n (fun j => zel ad F I L t o j)))
/-- the words that don't ride in lw_all -/
def zmv (w : Cond) : Bool := match w with
  | .fieldLinkNest _ _ _ _ _ _ => true
  | .methodLinkNest _ _ _ _ => true
  | .castable _ _ => true
  | .declares _ => true
  | _ => false
def zNw (s : State) : Prop := (∀ w ∈ lw_tbl, zmv w = true → va_Nw w s) ∧ va_AO "java/lang/Object" s ∧ va_AO "java/lang/String" s ∧ va_Nc "java/lang/IllegalArgumentException" "java/util/NoSuchElementException" s ∧ (Cond.privateMethod yJ7_ensureCapacityInternal).before #[] s = true
/-- the fields of constants that are known: String.value, String.coder, Integer.value -/
def zkf (c k : Nat) : Bool := match c, k with
  | 15, 0 => true
  | 15, 1 => true
  | 17, 0 => true
  | _, _ => false
/-- the statics that are read: class, name, descriptor, value (a constant's number) -/
def zStat : List (String × String × String × Value) :=
  [("SableCrown$Sort", "WORD", "LSableCrown$Sort;", .ref 0), ("SableCrown$Sort", "NUMBER", "LSableCrown$Sort;", .ref 1), ("SableCrown$Sort", "SIGN", "LSableCrown$Sort;", .ref 2), ("SableCrown$Sort", "BAD", "LSableCrown$Sort;", .ref 3), ("SableCrown$Sort", "END", "LSableCrown$Sort;", .ref 4),
   ("SableCrown$Value", "BOWS", "LSableCrown$Value;", .ref 10), ("SableCrown$Value", "SABLES", "LSableCrown$Value;", .ref 11), ("SableCrown$Value", "OWES", "LSableCrown$Value;", .ref 12), ("SableCrown$Value", "DUE", "LSableCrown$Value;", .ref 13), ("SableCrown$Value", "YEAR", "LSableCrown$Value;", .ref 14), ("SableCrown$Value", "STORE", "LSableCrown$Value;", .ref 15), ("SableCrown$Value", "OTHERS", "LSableCrown$Value;", .ref 16), ("SableCrown$Value", "$VALUES", "[LSableCrown$Value;", .ref 17),
   ("java/lang/String", "COMPACT_STRINGS", "Z", .int 1), ("java/lang/Integer$IntegerCache", "high", "I", .int 127), ("java/lang/Integer$IntegerCache", "cache", "[Ljava/lang/Integer;", .ref 18)]
/-- statics that may be null: what they hold is F 26 k -/
def zStaR : List (String × String × String × Nat) := [("java/lang/Throwable", "UNASSIGNED_STACK", "[Ljava/lang/StackTraceElement;", 0), ("java/lang/Throwable", "SUPPRESSED_SENTINEL", "Ljava/util/List;", 1), ("jdk/internal/util/Preconditions", "SIOOBE_FORMATTER", "Ljava/util/function/BiFunction;", 2)]
/-- the String constants: class, place, text, number -/
def zLit : List (String × Nat × String × Nat) := [("SableCrown$Reader", 9, "", 30), ("SableCrown$Reader", 126, "forest", 32), ("SableCrown$Reader", 148, "river", 34), ("SableCrown$Reader", 156, "band", 36), ("SableCrown$Reader", 169, "fort", 38), ("SableCrown$Reader", 176, "tax", 40), ("SableCrown$Reader", 184, "fox", 42), ("SableCrown$Reader", 188, "limit", 44), ("SableCrown$Reader", 192, "hunts", 46), ("SableCrown$Reader", 201, ";", 48), ("SableCrown$Reader", 230, "(", 50), ("SableCrown$Reader", 235, "or", 52), ("SableCrown$Reader", 245, "and", 54), ("SableCrown$Reader", 246, "not", 56), ("SableCrown$Reader", 250, "<", 58), ("SableCrown$Reader", 252, "=", 60), ("SableCrown$Reader", 266, "+", 62), ("SableCrown$Reader", 268, "-", 64), ("SableCrown$Reader", 273, "*", 66), ("SableCrown$Reader", 275, "/", 68), ("SableCrown$Reader", 280, ")", 70), ("SableCrown$Reader", 290, "bows", 72), ("SableCrown$Reader", 298, "sables", 74), ("SableCrown$Reader", 303, "owes", 76), ("SableCrown$Reader", 308, "due", 78), ("SableCrown$Reader", 313, "year", 80), ("SableCrown$Reader", 318, "store", 82), ("SableCrown$Reader", 323, "others", 84), ("SableCrownModel", 11, "bows", 86), ("SableCrownModel", 13, "sables", 88), ("SableCrownModel", 15, "owes", 90), ("SableCrownModel", 17, "due", 92), ("SableCrownModel", 19, "year", 94), ("SableCrownModel", 21, "store", 96), ("SableCrownModel", 23, "others", 98), ("SableCrownModel", 255, "not", 100), ("SableCrownModel", 263, "and", 102), ("SableCrownModel", 268, "or", 104), ("SableCrownModel", 277, "tax", 106), ("SableCrownModel", 279, "fox", 108), ("SableCrownModel", 281, "limit", 110), ("SableCrownModel", 283, "hunts", 112), ("SableCrownModel", 285, "forest", 114), ("SableCrownModel", 290, "river", 116), ("SableCrownModel", 294, "band", 118), ("SableCrownModel", 299, "fort", 120)]
/-- numbers of opaque constants: nothing is known of where they lie -/
def zopq (o : Nat) : Bool := o == 21 || (26 ≤ o && o < 30)
/-- two numbers that may be compared -/
def zcq (i j : Nat) : Prop := (zNC ≤ i ∧ zopq j = false) ∨ (zNC ≤ j ∧ zopq i = false) ∨ (i < 5 ∧ j < 5) ∨ i = j
/-- constants: what holds of them at the law's start, and goes on to hold -/
def zCon (G : zGt) (s : State) : Prop :=
  (∀ o, o < zNC → ∀ c n, G.2.2.2.1 o = some (c, n) → (zopq o = false → G.2.2.1 o < G.2.1.size) ∧
    ((c < 18 ∧ ∃ q : vw_C, zCl[c]? = some q ∧ va_O q.1 (G.2.2.1 o) (zA G) s G.2.1 ∧ ∀ k, zkf c k = true → va_OF (q.2.1 k).1 (q.2.1 k).2.1 (q.2.1 k).2.2.1 (zfv G.2.2.1 G.2.2.2.2.1 G.2.2.2.2.2 (fun _ _ => 0) (zTy c k) o k) (G.2.2.1 o) (zA G) s G.2.1) ∨
     ((c = 20 ∨ c = 22) ∧ (c = 20 → va_O "SableCrown$Sort" (G.2.2.1 o) (zA G) s G.2.1)) ∨
     (c = 21 ∧ va_O "SableCrown$Value" (G.2.2.1 o) (zA G) s G.2.1 ∧ va_OF "java/lang/Enum" "ordinal" "I" (.int (nI n)) (G.2.2.1 o) (zA G) s G.2.1) ∨
     (∃ t, c = 64 + t ∧ t < 8 ∧ t ≠ 3 ∧ va_T (zAr t) (G.2.2.1 o) n (fun j => zel G.2.2.1 G.2.2.2.2.1 G.2.2.2.2.2 (fun _ _ => 0) t o j) (zA G) s G.2.1))) ∧
  (∀ o, o < zNC → ∀ k j, G.2.2.2.2.1 o k = some j → j < zNC) ∧
  (∀ q ∈ zStat, va_Z q.1 q.2.1 q.2.2.1 (zc G.2.2.1 q.2.2.2) (zA G) s G.2.1) ∧ (∀ q ∈ zLit, vk_R q.1 q.2.1 q.2.2.1 (G.2.2.1 q.2.2.2) s) ∧
  (∀ i j, i < 5 → j < 5 → G.2.2.1 i = G.2.2.1 j → i = j) ∧
  vx_Zq Bundle.tN "UNASSIGNED_STACK" Bundle.steD (zA G) s G.2.1 ∧ vx_Zq Bundle.tN "SUPPRESSED_SENTINEL" Bundle.listD (zA G) s G.2.1 ∧ va_Mi "[Ljava/lang/Object;" (G.2.2.1 21) s ∧ (∃ cell : Cell, G.2.1[G.2.2.1 17]? = some cell ∧ cell.slots.size = 7 ∧ cell.cls = G.1.2.2 6) ∧
  ∀ q ∈ zStaR, va_Z q.1 q.2.1 q.2.2.1 (va_rf ((G.2.2.2.2.1 26 q.2.2.2).map G.2.2.1)) (zA G) s G.2.1
/-- the store (K, F, I, L) is what the heap H holds, the number o being at the address ad o -/
def zRep (G : zGt) (ad : Nat → Nat) (K : zKd) (F : zFd) (I : zId) (L : zLd) (s : State) (H : Heap) (locs : List Loc) : Prop :=
  (∀ o, zNC ≤ o → K o ≠ none → zat G.1 ad K F I L H o ∧ zA G (ad o)) ∧
  (∀ i j, zNC ≤ i → zNC ≤ j → K i ≠ none → K j ≠ none → ad i = ad j → i = j) ∧
  (∀ o k j, K o ≠ none → F o k = some j → K j ≠ none) ∧
  (∀ o, o < zNC → K o = G.2.2.2.1 o ∧ F o = G.2.2.2.2.1 o ∧ I o = G.2.2.2.2.2 o ∧ ad o = G.2.2.1 o) ∧
  va_S (zA G) G.2.1 H locs ∧ va_K (zDD G.1) zCl (zTys G.1) s ∧ zCon G s ∧ zNw s
/-- of that, what lies in the heap -/
def zHp (G : zGt) (ad : Nat → Nat) (K : zKd) (F : zFd) (I : zId) (L : zLd) (H : Heap) : Prop :=
  (∀ o, zNC ≤ o → K o ≠ none → zat G.1 ad K F I L H o ∧ zA G (ad o)) ∧
  (∀ i j, zNC ≤ i → zNC ≤ j → K i ≠ none → K j ≠ none → ad i = ad j → i = j) ∧
  (∀ o k j, K o ≠ none → F o k = some j → K j ≠ none) ∧
  (∀ o, o < zNC → K o = G.2.2.2.1 o ∧ F o = G.2.2.2.2.1 o ∧ I o = G.2.2.2.2.2 o ∧ ad o = G.2.2.1 o) ∧
  G.2.1.size ≤ H.size ∧ (∀ q : Nat, q < G.2.1.size → ¬ zA G q → H[q]? = G.2.1[q]?)
def zwv (K : zKd) (v : Value) : Prop := match v with
  | .ref i => K i ≠ none
  | _ => True
def zws (K : zKd) (st : List Value) : Prop := match st with
  | [] => True
  | v :: r => zwv K v ∧ zws K r
def zwf (K : zKd) (lv : List (Nat × Value)) (st : List Value) : Prop := (∀ q ∈ lv, zwv K q.2) ∧ zws K st
def zExt (K0 : zKd) (ad0 : Nat → Nat) (K : zKd) (ad : Nat → Nat) : Prop := ∀ i, K0 i ≠ none → K i = K0 i ∧ ad i = ad0 i
def zQc (G : zGt) (K0 : zKd) (ad0 : Nat → Nat) (Q : zQt) : Array Value → State → Outcome → State → Prop := fun _ _ o t =>
  ∃ (v : Option Value) (K : zKd) (F : zFd) (I : zId) (L : zLd) (ad : Nat → Nat), o = .returned (v.map (zc ad)) ∧ zHp G ad K F I L t.heap ∧ zExt K0 ad0 K ad ∧ (∀ x, v = some x → zwv K x) ∧ Q (.inl v) K F I L
def zXC (G : zGt) (K0 : zKd) (ad0 : Nat → Nat) (Q : zQt) : Addr → String → State → State → Prop := fun q E _ t =>
  ∃ (i : Nat) (K : zKd) (F : zFd) (I : zId) (L : zLd) (ad : Nat → Nat), (E = "SableCrown$Fault" → q = ad i ∧ K i = some (8, 0)) ∧ zHp G ad K F I L t.heap ∧ zExt K0 ad0 K ad ∧ Q (.inr (E, i)) K F I L
/-- the machine under a method's walk -/
def zCtx (l : Launch) (M : zM) (p : Program) (s : State) (m : MethodId) (args : Array Value) (meth : Method) (c : Code) : Prop :=
  p.tables.exec = Jvm.exec ∧ c.code = M.2.1 ∧ c.maxLocals = M.2.2.1 ∧ s.vm.findClass M.1 = some m.cls ∧ (∀ w ∈ lw_all, w.before args s = true) ∧ meth.sig.returnType = M.2.2.2.1 ∧ meth.locks = false ∧ meth.name = M.2.2.2.2.1 ∧ c.exceptionTable.toList = tableOf M.2.2.2.2.2 ∧ l.stackTraces = false
/-- from the place pc of the method M, with these locals and this stack over this store, the method comes to an end with Q; fr, lo: frames and locals' words for what it calls; mc, ms: cells and slots that it makes -/
def zW (l : Launch) (G : zGt) (M : zM) (fr lo mc ms pc : Nat) (lv : List (Nat × Value)) (st : List Value) (K : zKd) (F : zFd) (I : zId) (L : zLd) (Q : zQt) : Prop :=
  ∀ (p : Program) (e : Env) (R : Room) (s : State) (m : MethodId) (args : Array Value) (below : List Frame) (meth : Method) (c : Code) (H : Heap) (locs : List Loc) (cells slots : Nat) (ls : Array Slot) (ad ad0 : Nat → Nat) (K0 : zKd),
    zCtx l M p s m args meth c → (fr ≤ R.frames ∧ lo ≤ R.locals ∧ cells + mc ≤ R.cells ∧ slots + ms ≤ R.slots) → zRep G ad K F I L s H locs → zExt K0 ad0 K ad → zwf K lv st → lv_has ls M.2.2.1 (lv.map fun q => (q.1, zc ad q.2)) →
    W p l e R s m args below meth c H locs cells slots (vx_MQ below (zQc G K0 ad0 Q) (zXC G K0 ad0 Q) args s R.cells R.slots (zA G)) (F0 m pc ls (st.map (zc ad)))
/-- a method's contract: from the arguments As over this store -/
def zMet (l : Launch) (G : zGt) (y : MethodName) (ws : List Cond) (fr lo mc ms : Nat) (As : List Value) (K : zKd) (F : zFd) (I : zId) (L : zLd) (Q : zQt) : Prop :=
  ∀ ad : Nat → Nat, vx_Met l y ws { frames := fr, cells := mc, slots := ms, locals := lo } (fun av U => av = (As.map (zc ad)).toArray ∧ zRep G ad K F I L U U.heap [] ∧ zws K As) (zQc G K ad Q) (zXC G K ad Q) mc ms (zA G)
