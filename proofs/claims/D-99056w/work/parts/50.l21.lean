/-! L21: where, counted -/
theorem zib1_cases (x : Int32) (n : Nat) (hn : n + 1 < 2147483648) : (∃ k, 1 ≤ k ∧ k ≤ n ∧ x = nI k ∧ zib x 1 (nI n) = 1) ∨ (zib x 1 (nI n) = 0 ∧ (x < 1 ∨ nI n < x)) := by
  rcases zib_cases x n hn with ⟨k, h1, rfl⟩ | ⟨h1, h2⟩
  · by_cases c : k = 0
    · subst c; exact Or.inr ⟨zib_0 (Or.inl (by decide)), Or.inl (by decide)⟩
    · refine Or.inl ⟨k, by omega, h1, rfl, zib_1 ?_ (nI_nlt h1 (by omega))⟩
      exact nI_nlt (a := k) (b := 1) (by omega) (by omega)
  · have : x < 1 ∨ nI n < x := h2.imp (fun h => by rw [iL] at h ⊢; rw [i_0] at h; rw [i_1]; omega) id
    exact Or.inr ⟨zib_0 this, this⟩
def q_i1 (x : Int32) (n c : Nat) (q : Nat → Int32 ⊕ Nat) : Int32 ⊕ Nat := if x < 1 ∨ nI n < x then .inr c else q x.toNatClampNeg
theorem q_i1_ok {n k c : Nat} {q : Nat → Int32 ⊕ Nat} (h1 : 1 ≤ k) (h : k ≤ n) (hn : n < 100000) : q_i1 (nI k) n c q = q k := by
  unfold q_i1
  rw [if_neg, nI_c (by omega)]
  intro h2
  rcases h2 with h2 | h2
  · exact nI_nlt (a := k) (b := 1) h1 (by omega) h2
  · exact nI_nlt h (by omega) h2
theorem q_i1_no {n c : Nat} {x : Int32} {q : Nat → Int32 ⊕ Nat} (h : x < 1 ∨ nI n < x) : q_i1 x n c q = .inr c := if_pos h
def sp_ob (P : zP) (S : zS) (b f : Nat) (seen : Int32) (n : Nat) : Int32 := sp_it P (zu (zu S 4 b (nI f)) 5 b seen) n 7 b
def zwh (v : Nat → Int32) : Nat → Int32 × Int32
  | 0 => (-1, 0)
  | n + 1 => if (zwh v n).1 = -1 ∨ v n < (zwh v n).2 then (nI n, v n) else zwh v n
theorem zwh_1 {v : Nat → Int32} : ∀ n, n < 1000 → ¬ (zwh v (n + 1)).1 = -1
  | 0, _ => by
    rw [zwh, if_pos (show (zwh v 0).1 = -1 ∨ v 0 < (zwh v 0).2 from Or.inl rfl)]
    exact nI_m1 (by omega)
  | n + 1, h => by
    rw [zwh]
    split
    · exact nI_m1 (by omega)
    · exact zwh_1 n (by omega)
/-- the greatest place with p -/
def zdo (p : Nat → Bool) : Nat → Int32
  | 0 => if p 0 = true then 0 else -1
  | n + 1 => if p (n + 1) = true then nI (n + 1) else zdo p n
def q_where (P : zP) (S : zS) (x y w : Int32) : Int32 ⊕ Nat := q_fa (pnb P) x fun b => q_in w 1 1 fun w => q_i1 y 20 2 fun n => .inl (if w = 0 then (zwh (fun f => sp_ob P S b f (S 5 b) n) (pnf P)).1 else (zwh (fun f => sp_ob P S b f (S 5 b) n) (pnf P)).2)
def q_counted (P : zP) (S : zS) (x y : Int32) : Int32 ⊕ Nat := q_fa (pnb P) x fun b => q_i1 y 20 2 fun n => .inl (zdo (fun s => decide (sp_ob P S b (sp_f S b) (nI s) n = 0)) 30)
theorem sInv_at {P : zP} {S : zS} (h : sInv P S) {b f : Nat} (hf : f < pnf P) : sInv P (zu S 4 b (nI f)) := by
  refine ⟨fun b' hb' => ?_, fun f' hf' => ?_⟩
  · obtain ⟨g1, g2⟩ := h.1 b' hb'
    have z : ∀ r, r ≠ 4 → zu S 4 b (nI f) r b' = S r b' := fun r hr => zu_off fun q => hr q.1
    rw [z 3 (by decide), z 5 (by decide), z 6 (by decide), z 7 (by decide)]
    refine ⟨?_, g2⟩
    unfold zu
    split
    · exact ⟨f, hf, rfl⟩
    · exact g1
  · have z : ∀ r, r < 4 → zu S 4 b (nI f) r f' = S r f' := fun r hr => zu_off (by omega)
    rw [z 0 (by decide), z 1 (by decide), z 2 (by decide)]
    exact h.2 f' hf'
theorem sInv_seen {P : zP} {S : zS} (h : sInv P S) {b : Nat} {v : Int32} (hv : rg v 0 30) : sInv P (zu S 5 b v) := by
  refine ⟨fun b' hb' => ?_, fun f' hf' => ?_⟩
  · obtain ⟨g1, g2, g3, g4⟩ := h.1 b' hb'
    have z : ∀ r, r ≠ 5 → zu S 5 b v r b' = S r b' := fun r hr => zu_off fun q => hr q.1
    rw [z 3 (by decide), z 4 (by decide), z 6 (by decide), z 7 (by decide)]
    refine ⟨g1, g2, ?_, g4⟩
    unfold zu
    split
    · exact hv
    · exact g3
  · have z : ∀ r, r < 4 → zu S 5 b v r f' = S r f' := fun r hr => zu_off (by omega)
    rw [z 0 (by decide), z 1 (by decide), z 2 (by decide)]
    exact h.2 f' hf'
theorem sInv_bow {P : zP} {S : zS} (h : sInv P S) {b : Nat} {v : Int32} (hv : rg v 0 30) : sInv P (zu S 3 b v) := by
  refine ⟨fun b' hb' => ?_, fun f' hf' => ?_⟩
  · obtain ⟨g1, g2, g3⟩ := h.1 b' hb'
    have z : ∀ r, r ≠ 3 → zu S 3 b v r b' = S r b' := fun r hr => zu_off fun q => hr q.1
    rw [z 4 (by decide), z 5 (by decide), z 6 (by decide), z 7 (by decide)]
    refine ⟨g1, ?_, g3⟩
    unfold zu
    split
    · exact hv
    · exact g2
  · have z : ∀ r, r < 3 → zu S 3 b v r f' = S r f' := fun r hr => zu_off (by omega)
    rw [z 0 (by decide), z 1 (by decide), z 2 (by decide)]
    exact h.2 f' hf'
theorem rg_nI {k n : Nat} (h : k ≤ n) (hn : n < 100000) : rg (nI k) 0 n := by
  unfold rg
  rw [nI_toInt (by omega)]
  omega
section L21
variable {K : zKd} {F : zFd} {I : zId} {a N : Nat} {P : zP} {X : zXd}
theorem F_owesBy_ok (h : zCQ K F I a N P X) (hp : pInv P) (hi : sInv P (zcv (pnf P) (pnb P) I 1014)) {b f n : Nat} {v : Int32} (hb : b < pnb P) (hf : f < pnf P) (hv : rg v 0 30) (hn : n < 2147483648) : ∃ J, F_X1_owesBy K F 1000 (nI b) (nI f) v (nI n) I = some (sp_ob P (zcv (pnf P) (pnb P) I 1014) b f v n, J) ∧ zcf a I J := by
  obtain ⟨h1, h2⟩ := F_tl_ok h
  have e0 : zcv (pnf P) (pnb P) (zlk I 1847 1014) 1847 = zcv (pnf P) (pnb P) I 1014 := zlk_cv hp.1 hp.2.1 (by decide)
  have h0 := h
  have hnf := hp.1
  have hnb := hp.2.1
  obtain ⟨k0, ⟨f0, f1, f2, f3, f4, f6, f9, f10⟩, ⟨kt, kw, ks⟩, ⟨hN, hT⟩, hL, hQ, hd⟩ := h
  have h2' : zcf a I (zu (zu (zlk I 1847 1014) 1852 b (nI f)) 1853 b v) := (h2.zu (by simp [zcsc])).zu (by simp [zcsc])
  have e1 : zcv (pnf P) (pnb P) (zu (zu (zlk I 1847 1014) 1852 b (nI f)) 1853 b v) 1847 = zu (zu (zcv (pnf P) (pnb P) I 1014) 4 b (nI f)) 5 b v := by
    have z5 := zcvu5 (nf := pnf P) (nb := pnb P) (I := zu (zlk I 1847 1014) 1852 b (nI f)) (o := 1847) (v := v) hb
    have z4 := zcvu4 (nf := pnf P) (nb := pnb P) (I := zlk I 1847 1014) (o := 1847) (v := nI f) hb
    rw [e0] at z4
    rw [z4] at z5
    exact z5
  obtain ⟨J, g1, g2, g3⟩ := F_goesBy_ok (h0.cf h2') hp (by rw [e1]; exact sInv_seen (sInv_at hi hf) hv) hn
  refine ⟨J, ?_, h2'.tr g3⟩
  have e2 : J 1855 b = sp_ob P (zcv (pnf P) (pnb P) I 1014) b f v n := by unfold sp_ob; rw [← e1, ← g2]; exact (zcv7 hb).symm
  obtain ⟨t6, tk, ⟨-, -, -, -, t4, t5, -, t7, -⟩, -, -, -, -, tk5, tk6, -, tk8, -⟩ := hT
  simp only [F_X1_owesBy, ↓zka_eq k0, d1000, d1847, ↓reduceIte, zg_true, zb1_e, zb2_e, zb3_e, zsum, zlet_e, nI_1, f3, f4, ↓zka_eq tk, h1, t4, t5, t7, ↓zka_eq tk5, ↓zka_eq tk6, ↓zka_eq tk8, zin_n (show b < 6 by omega), nI_c (show b < 2147483648 by omega), decide_eq_true (show 600 ≤ 1847 + 5 by decide), decide_eq_true (show 600 ≤ 1847 + 6 by decide)]
  rw [show zu (zu (zlk I 1847 1014) (1847 + 5) b (nI f)) (1847 + 6) b v = zu (zu (zlk I 1847 1014) 1852 b (nI f)) 1853 b v from rfl, g1]
  simp only [zb1_e]
  rw [show J (1847 + 8) b = J 1855 b from rfl, e2]
theorem F_where_ok (h : zCQ K F I a N P X) (hp : pInv P) (hi : sInv P (zcv (pnf P) (pnb P) I 1014)) (x y w : Int32) : ∃ J, F_X1_where K F 1000 x y w I = some (qC (q_where P (zcv (pnf P) (pnb P) I 1014) x y w), J) ∧ zcf a I J := by
  obtain ⟨h1, h2⟩ := F_tl_ok h
  have e0 : zcv (pnf P) (pnb P) (zlk I 1847 1014) 1847 = zcv (pnf P) (pnb P) I 1014 := zlk_cv hp.1 hp.2.1 (by decide)
  have h0 := h
  have hnf := hp.1
  have hnb := hp.2.1
  obtain ⟨k0, ⟨f0, f1, f2, f3, f4, f6, f9, f10⟩, ⟨kt, kw, ks⟩, ⟨hN, hT⟩, hL, hQ, hd⟩ := h
  unfold q_where
  rcases zir_cases x (n := pnb P) (by omega) with ⟨b, hb, rfl⟩ | hx
  · rw [q_fa_ok hb (by omega)]
    have hB := F_bandAt_ok h0 hp hb
    rcases zib_cases w 1 (by decide) with ⟨w, hw, rfl⟩ | ⟨hw, hw2⟩
    · rw [q_in_ok hw (by decide)]
      have ew : F_X1_within K F (nI w) 0 1 I = some 1 := by rw [F_within_ok]; exact congrArg some (zib_nI hw (by decide))
      rcases zib1_cases y 20 (by decide) with ⟨n, hn1, hn, rfl, hn2⟩ | ⟨hy, hy2⟩
      · rw [q_i1_ok hn1 hn (by decide)]
        have ey : F_X1_within K F (nI n) 1 20 I = some 1 := by rw [F_within_ok]; exact congrArg some hn2
        have hw0 : (nI w = 0) ↔ w = 0 := nI_eq (b := 0) (by omega) (by omega)
        have hse := (hi.1 b hb).2.2.1
        obtain ⟨t6, tk, ⟨-, -, -, -, t4, t5, -, t7, -⟩, -, -, -, -, tk5, tk6, -, tk8, -⟩ := hN
        have s := zloop_up (body := fun s : Int32 × Int32 × Int32 × zId => F_X1_where_L33 K F 1000 (nI b) (nI n) s.1 s.2.1 s.2.2.1 s.2.2.2) (fun i s => (s.1, s.2.1) = zwh (fun f => sp_ob P (zcv (pnf P) (pnb P) I 1014) b f ((zcv (pnf P) (pnb P) I 1014) 5 b) n) i ∧ s.2.2.1 = nI i ∧ zcf a I s.2.2.2) (fun t => (t.1, t.2.1) = zwh (fun f => sp_ob P (zcv (pnf P) (pnb P) I 1014) b f ((zcv (pnf P) (pnb P) I 1014) 5 b) n) (pnf P) ∧ zcf a I t.2.2) (pnf P) ?_ ?_ 0 (-1, 0, 0, I) (Nat.zero_le _) ⟨rfl, rfl, zcf.rf⟩
        · obtain ⟨⟨t1, t2, J⟩, s1, s2, s3⟩ := s
          dsimp only at s2 s3
          refine ⟨J, ?_, s3⟩
          simp only [F_X1_where, ↓zka_eq k0, ↓reduceIte, zg_true, zb1_e, zb2_e, zb3_e, zsum, zlet_e, nI_1, hB, ew, ey, F_there_1, F_right_1, s1, zn3, qC, hw0, ← s2]
          by_cases c : w = 0
          · rw [if_neg (fun h => h c), if_pos c]
          · rw [if_pos c, if_neg c]
        · rintro i ⟨t1, t2, _, J⟩ hif ⟨e1, rfl, e3⟩
          dsimp only at e1 e3
          have hJ := h0.cf e3
          have en := e3.now h0
          have e5 : J 1020 b = (zcv (pnf P) (pnb P) I 1014) 5 b := by rw [← en]; exact (zcv5 hb).symm
          obtain ⟨J1, g1, g2⟩ := F_owesBy_ok hJ hp (by rw [en]; exact hi) hb hif hse (n := n) (by omega)
          rw [en] at g1
          have hfo := F_forests_ok hJ
          by_cases c : t1 = -1
          · refine Or.inl ⟨(nI i, sp_ob P (zcv (pnf P) (pnb P) I 1014) b i ((zcv (pnf P) (pnb P) I 1014) 5 b) n, nI (i + 1), J1), ?_, ?_, rfl, e3.tr g2⟩
            · dsimp only
              simp only [F_X1_where_L33, ↓zka_eq k0, hfo, ↓reduceIte, zg_true, zb1_e, zb2_e, zb3_e, zsum, zlet_e, nI_1, nI_ge hif (show pnf P < 2 ^ 31 by omega), d1000, d1014, f3, ↓zka_eq tk, t5, ↓zka_eq tk6, zin_n (show b < 6 by omega), nI_c (show b < 2147483648 by omega), e5, g1, if_pos c]
            · rw [zwh, ← e1, if_pos (Or.inl c)]
          · by_cases c2 : sp_ob P (zcv (pnf P) (pnb P) I 1014) b i ((zcv (pnf P) (pnb P) I 1014) 5 b) n < t2
            · refine Or.inl ⟨(nI i, sp_ob P (zcv (pnf P) (pnb P) I 1014) b i ((zcv (pnf P) (pnb P) I 1014) 5 b) n, nI (i + 1), J1), ?_, ?_, rfl, e3.tr g2⟩
              · dsimp only
                simp only [F_X1_where_L33, ↓zka_eq k0, hfo, ↓reduceIte, zg_true, zb1_e, zb2_e, zb3_e, zsum, zlet_e, nI_1, nI_ge hif (show pnf P < 2 ^ 31 by omega), d1000, d1014, f3, ↓zka_eq tk, t5, ↓zka_eq tk6, zin_n (show b < 6 by omega), nI_c (show b < 2147483648 by omega), e5, g1, if_neg c, if_pos c2]
              · rw [zwh, ← e1, if_pos (Or.inr c2)]
            · refine Or.inl ⟨(t1, t2, nI (i + 1), J1), ?_, ?_, rfl, e3.tr g2⟩
              · dsimp only
                simp only [F_X1_where_L33, ↓zka_eq k0, hfo, ↓reduceIte, zg_true, zb1_e, zb2_e, zb3_e, zsum, zlet_e, nI_1, nI_ge hif (show pnf P < 2 ^ 31 by omega), d1000, d1014, f3, ↓zka_eq tk, t5, ↓zka_eq tk6, zin_n (show b < 6 by omega), nI_c (show b < 2147483648 by omega), e5, g1, if_neg c, if_neg c2]
              · rw [zwh, ← e1, if_neg (fun q => q.elim c c2)]
        · rintro ⟨t1, t2, _, J⟩ ⟨e1, rfl, e3⟩
          refine ⟨(t1, t2, J), ?_, e1, e3⟩
          dsimp only
          simp only [F_X1_where_L33, ↓zka_eq k0, F_forests_ok (h0.cf e3), zb1_e, ↓reduceIte, nI_le (Nat.le_refl (pnf P)) (show pnf P < 2 ^ 31 by omega)]
      · rw [q_i1_no hy2]
        refine ⟨I, ?_, zcf.rf⟩
        have ey : F_X1_within K F y 1 20 I = some 0 := by rw [F_within_ok]; exact congrArg some hy
        simp only [F_X1_where, ↓zka_eq k0, ↓reduceIte, zg_true, zb1_e, zb2_e, zb3_e, zsum, zlet_e, nI_1, hB, ew, ey, F_there_1, F_right_0, qC]
        try rfl
    · rw [q_in_no hw2]
      refine ⟨I, ?_, zcf.rf⟩
      have ew : F_X1_within K F w 0 1 I = some 0 := by rw [F_within_ok]; exact congrArg some hw
      simp only [F_X1_where, ↓zka_eq k0, ↓reduceIte, zg_true, zb1_e, zb2_e, zb3_e, zsum, zlet_e, nI_1, hB, ew, F_there_0, qC]
      try rfl
  · rw [q_fa_no hx]
    refine ⟨I, ?_, zcf.rf⟩
    simp only [F_X1_where, ↓zka_eq k0, F_bandAt_no h0 hx, ↓reduceIte, zg_true, zb1_e, zb2_e, zb3_e, zsum, zlet_e, nI_1, qC]
    try rfl
theorem F_counted_ok (h : zCQ K F I a N P X) (hp : pInv P) (hi : sInv P (zcv (pnf P) (pnb P) I 1014)) (x y : Int32) : ∃ J, F_X1_counted K F 1000 x y I = some (qC (q_counted P (zcv (pnf P) (pnb P) I 1014) x y), J) ∧ zcf a I J := by
  obtain ⟨h1, h2⟩ := F_tl_ok h
  have e0 : zcv (pnf P) (pnb P) (zlk I 1847 1014) 1847 = zcv (pnf P) (pnb P) I 1014 := zlk_cv hp.1 hp.2.1 (by decide)
  have h0 := h
  have hnf := hp.1
  have hnb := hp.2.1
  obtain ⟨k0, ⟨f0, f1, f2, f3, f4, f6, f9, f10⟩, ⟨kt, kw, ks⟩, ⟨hN, hT⟩, hL, hQ, hd⟩ := h
  unfold q_counted
  rcases zir_cases x (n := pnb P) (by omega) with ⟨b, hb, rfl⟩ | hx
  · rw [q_fa_ok hb (by omega)]
    have hB := F_bandAt_ok h0 hp hb
    rcases zib1_cases y 20 (by decide) with ⟨n, hn1, hn, rfl, hn2⟩ | ⟨hy, hy2⟩
    · rw [q_i1_ok hn1 hn (by decide)]
      have ey : F_X1_within K F (nI n) 1 20 I = some 1 := by rw [F_within_ok]; exact congrArg some hn2
      obtain ⟨t6, tk, ⟨-, -, -, -, t4, t5, -, t7, -⟩, -, -, -, -, tk5, tk6, -, tk8, -⟩ := hN
      obtain ⟨ea, haf⟩ := hi.at' hp hb
      have key : ∀ m, m ≤ 30 → ∀ J, zcf a I J → (∃ J', zloop (fun s : Int32 × zId => F_X1_counted_L18 K F 1000 (nI b) (nI n) s.1 s.2) (nI m, J) = some (.inl J') ∧ zcf a I J' ∧ zdo (fun s => decide (sp_ob P (zcv (pnf P) (pnb P) I 1014) b (sp_f (zcv (pnf P) (pnb P) I 1014) b) (nI s) n = 0)) m = -1) ∨ ∃ J', zloop (fun s : Int32 × zId => F_X1_counted_L18 K F 1000 (nI b) (nI n) s.1 s.2) (nI m, J) = some (.inr (.inl (zdo (fun s => decide (sp_ob P (zcv (pnf P) (pnb P) I 1014) b (sp_f (zcv (pnf P) (pnb P) I 1014) b) (nI s) n = 0)) m), J')) ∧ zcf a I J' := by
        have step : ∀ m, m ≤ 30 → ∀ J, zcf a I J → ∃ J', zcf a I J' ∧ ((sp_ob P (zcv (pnf P) (pnb P) I 1014) b (sp_f (zcv (pnf P) (pnb P) I 1014) b) (nI m) n = 0 ∧ F_X1_counted_L18 K F 1000 (nI b) (nI n) (nI m) J = some (.inr (.inr (.inl (nI m), J')))) ∨ (¬ sp_ob P (zcv (pnf P) (pnb P) I 1014) b (sp_f (zcv (pnf P) (pnb P) I 1014) b) (nI m) n = 0 ∧ F_X1_counted_L18 K F 1000 (nI b) (nI n) (nI m) J = some (.inl (nI m - 1, J')))) := by
          intro m hm J e3
          have hJ := h0.cf e3
          have en := e3.now h0
          have e5 : J 1019 b = nI (sp_f (zcv (pnf P) (pnb P) I 1014) b) := by rw [← ea, ← en]; exact (zcv4 hb).symm
          obtain ⟨J1, g1, g2⟩ := F_owesBy_ok hJ hp (by rw [en]; exact hi) hb haf (rg_nI hm (by decide)) (n := n) (by omega)
          rw [en] at g1
          have em1 : nI m + -1 = nI m - 1 := (Int32.sub_eq_add_neg _ _).symm
          refine ⟨J1, e3.tr g2, ?_⟩
          by_cases c : sp_ob P (zcv (pnf P) (pnb P) I 1014) b (sp_f (zcv (pnf P) (pnb P) I 1014) b) (nI m) n = 0
          · refine Or.inl ⟨c, ?_⟩
            simp only [F_X1_counted_L18, if_neg (nI_pos (show m < 2 ^ 31 by omega)), ↓zka_eq k0, ↓reduceIte, zg_true, zb1_e, zb2_e, zb3_e, zsum, zlet_e, nI_1, d1000, d1014, f3, ↓zka_eq tk, t4, ↓zka_eq tk5, zin_n (show b < 6 by omega), nI_c (show b < 2147483648 by omega), e5, g1, c, not_true_eq_false, if_false]
          · refine Or.inr ⟨c, ?_⟩
            simp only [F_X1_counted_L18, if_neg (nI_pos (show m < 2 ^ 31 by omega)), ↓zka_eq k0, ↓reduceIte, zg_true, zb1_e, zb2_e, zb3_e, zsum, zlet_e, nI_1, d1000, d1014, f3, ↓zka_eq tk, t4, ↓zka_eq tk5, zin_n (show b < 6 by omega), nI_c (show b < 2147483648 by omega), e5, g1, if_pos c, em1]
        intro m
        induction m with
        | zero =>
          intro hm J e3
          obtain ⟨J', g1, ⟨g2, g3⟩ | ⟨g2, g3⟩⟩ := step 0 hm J e3
          · refine Or.inr ⟨J', ?_, g1⟩
            rw [zloop_end (t := .inr (.inl (nI 0), J')) g3, zdo, if_pos (decide_eq_true g2)]
            rfl
          · refine Or.inl ⟨J', ?_, g1, ?_⟩
            · rw [zloop_step (s' := (nI 0 - 1, J')) g3]
              exact zloop_end (by dsimp only; simp only [F_X1_counted_L18, if_pos (show nI 0 - 1 < 0 by decide)])
            · rw [zdo, decide_eq_false g2]
              rfl
        | succ m ih =>
          intro hm J e3
          obtain ⟨J', g1, ⟨g2, g3⟩ | ⟨g2, g3⟩⟩ := step (m + 1) hm J e3
          · refine Or.inr ⟨J', ?_, g1⟩
            rw [zloop_end (t := .inr (.inl (nI (m + 1)), J')) g3, zdo, if_pos (decide_eq_true g2)]
          · rw [nI_pred] at g3
            rw [zloop_step (s' := (nI m, J')) g3, zdo, decide_eq_false g2, if_neg (by decide)]
            exact ih (by omega) J' g1
      rcases key 30 (Nat.le_refl _) I zcf.rf with ⟨J, g1, g2, g3⟩ | ⟨J, g1, g2⟩
      · refine ⟨J, ?_, g2⟩
        rw [g3]
        simp only [F_X1_counted, ↓zka_eq k0, ↓reduceIte, zg_true, zb1_e, zb2_e, zb3_e, zsum, zlet_e, nI_1, hB, ey, F_right_1, qC]
        rw [show (30 : Int32) = nI 30 from rfl, g1]
        rfl
      · refine ⟨J, ?_, g2⟩
        simp only [F_X1_counted, ↓zka_eq k0, ↓reduceIte, zg_true, zb1_e, zb2_e, zb3_e, zsum, zlet_e, nI_1, hB, ey, F_right_1, qC]
        rw [show (30 : Int32) = nI 30 from rfl, g1]
        rfl
    · rw [q_i1_no hy2]
      refine ⟨I, ?_, zcf.rf⟩
      have ey : F_X1_within K F y 1 20 I = some 0 := by rw [F_within_ok]; exact congrArg some hy
      simp only [F_X1_counted, ↓zka_eq k0, ↓reduceIte, zg_true, zb1_e, zb2_e, zb3_e, zsum, zlet_e, nI_1, hB, ey, F_right_0, qC]
      try rfl
  · rw [q_fa_no hx]
    refine ⟨I, ?_, zcf.rf⟩
    simp only [F_X1_counted, ↓zka_eq k0, F_bandAt_no h0 hx, ↓reduceIte, zg_true, zb1_e, zb2_e, zb3_e, zsum, zlet_e, nI_1, qC]
    try rfl
end L21
