/-! L23: what was spied -/
abbrev zSpd : Type := Nat × (Nat → Nat) × (Nat → Int32) × (Nat → Int32)
def zal (p : Nat → Bool) : Nat → Bool
  | 0 => true
  | n + 1 => zal p n && p n
theorem zal_t {p : Nat → Bool} {n : Nat} (h : zal p n = true) (h2 : p n = true) : zal p (n + 1) = true := by rw [zal, h, h2]; rfl
theorem zal_f {p : Nat → Bool} {k : Nat} (h : p k = false) : ∀ n, k < n → zal p n = false
  | 0, hk => by omega
  | n + 1, hk => by
    rw [zal]
    by_cases e : k = n
    · subst e; rw [h]; simp
    · rw [zal_f h n (by omega)]; rfl
def spInv (P : zP) (Sp : zSpd) : Prop := Sp.1 ≤ 8 ∧ ∀ k, k < Sp.1 → Sp.2.1 k < pnb P
def sp_okk (Sp : zSpd) (S : zS) (y k : Nat) : Bool := !(decide (Sp.2.2.1 k = nI y)) || decide (S 6 (Sp.2.1 k) = Sp.2.2.2 k)
def sp_ok (Sp : zSpd) (S : zS) (y : Nat) : Bool := zal (sp_okk Sp S y) Sp.1
/-- whether stores come as spied -/
def sp_sp (P : zP) (Sp : zSpd) (S : zS) : Bool := zal (fun y => sp_ok Sp (sp_it P S y) y) 21
def zCSp (K : zKd) (F : zFd) (I : zId) (Sp : zSpd) : Prop := (K 1013 = some (4, 0) ∧ F 1013 2 = some 1026 ∧ F 1013 3 = some 1027 ∧ F 1013 4 = some 1028 ∧ K 1026 = some (64, 8) ∧ K 1027 = some (64, 8) ∧ K 1028 = some (64, 8)) ∧ I 1013 7 = nI Sp.1 ∧ ∀ k, k < Sp.1 → I 1026 k = nI (Sp.2.1 k) ∧ I 1027 k = Sp.2.2.1 k ∧ I 1028 k = Sp.2.2.2 k
def zMSp (I : zId) (Sp : zSpd) : Prop := I 1860 38 = nI Sp.1 ∧ ∀ k, k < Sp.1 → I 1890 k = nI (Sp.2.1 k) ∧ I 1891 k = Sp.2.2.1 k ∧ I 1892 k = Sp.2.2.2 k
theorem zMSp.mf {I I' : zId} {Sp : zSpd} (h : zMSp I Sp) (e : zmf I I') : zMSp I' Sp := by
  unfold zMSp
  rw [e 1860 38 (by simp [zmsc]), e.row (x := 1890) fun k => by simp [zmsc], e.row (x := 1891) fun k => by simp [zmsc], e.row (x := 1892) fun k => by simp [zmsc]]
  exact h
theorem zCSp.cf {K : zKd} {F : zFd} {I I' : zId} {a : Nat} {Sp : zSpd} (h : zCSp K F I Sp) (ha : a = 1001 ∨ 1903 ≤ a) (e : zcf a I I') : zCSp K F I' Sp := by
  have r : ∀ x, 1012 < x → x < 1847 → I' x = I x := fun x h1 h2 => e.row fun k => zcsc_no (by omega) (by omega) (by omega)
  unfold zCSp
  rw [r 1013 (by decide) (by decide), r 1026 (by decide) (by decide), r 1027 (by decide) (by decide), r 1028 (by decide) (by decide)]
  exact h
def q_b (b : Bool) : Int32 := if b = true then 1 else 0
section L23
variable {K : zKd} {F : zFd} {I : zId} {a N : Nat} {P : zP} {X : zXd} {Sp : zSpd}
theorem F_isSpied_ok (h : zCQ K F I a N P X) (hp : pInv P) (hi : sInv P (zcv (pnf P) (pnb P) I 1847)) (hs : zCSp K F I Sp) (hsi : spInv P Sp) : ∃ J, F_X1_isSpied K F 1000 I = some (q_b (sp_sp P Sp (zcv (pnf P) (pnb P) I 1847)), J) ∧ zcf a I J := by
  obtain ⟨h1, h2⟩ := F_tl_ok h
  have e0 : zcv (pnf P) (pnb P) (zlk I 1847 1014) 1847 = zcv (pnf P) (pnb P) I 1014 := zlk_cv hp.1 hp.2.1 (by decide)
  have h0 := h
  have hnf := hp.1
  have hnb := hp.2.1
  obtain ⟨k0, ⟨f0, f1, f2, f3, f4, f6, f9, f10⟩, ⟨kt, kw, ks⟩, ⟨hN, hT⟩, hL, hQ, hd⟩ := h
  generalize hS : zcv (pnf P) (pnb P) I 1847 = S at *
  have s := zloop_up (body := fun s : Int32 × zId => F_X1_isSpied_L2 K F 1000 s.1 s.2) (fun y s => s.1 = nI y ∧ zcv (pnf P) (pnb P) s.2 1847 = sp_it P S y ∧ zcf a I s.2 ∧ zal (fun y => sp_ok Sp (sp_it P S y) y) y = true) (fun t => match t with | .inl J => zcf a I J ∧ sp_sp P Sp S = true | .inr (v, J) => zcf a I J ∧ v = 0 ∧ sp_sp P Sp S = false) 21 ?_ ?_ 0 (0, I) (Nat.zero_le _) ⟨rfl, hS, zcf.rf, rfl⟩
  · obtain ⟨t, s1, s2⟩ := s
    cases t with
    | inl J => exact ⟨J, by simp only [F_X1_isSpied, s1, zs1]; rw [s2.2]; rfl, s2.1⟩
    | inr z =>
      obtain ⟨v, J⟩ := z
      exact ⟨J, by simp only [F_X1_isSpied, s1, zs1]; rw [s2.2.2, s2.2.1]; rfl, s2.1⟩
  · rintro y ⟨_, J⟩ hy ⟨rfl, e1, e2, e3⟩
    dsimp only at e1 e2
    obtain ⟨⟨c1, c2, c3, c4, c5, c6, c7⟩, c8, c9⟩ := hs.cf (by omega) e2
    have hm8 := hsi.1
    have hT0 := hT
    obtain ⟨t6, tk, ⟨-, -, -, -, -, -, tf6, -, -⟩, -, -, -, -, -, -, tk7, -, -⟩ := hT
    have d1013 : decide (600 ≤ 1013) = true := rfl
    have l := zloop_up (body := fun s : Int32 => F_X1_isSpied_L10 K F 1000 (nI y) J s) (fun k s => s = nI k ∧ zal (sp_okk Sp (sp_it P S y) y) k = true) (fun t => match t with | .inl _ => sp_ok Sp (sp_it P S y) y = true | .inr z => z = (0, J) ∧ sp_ok Sp (sp_it P S y) y = false) Sp.1 ?_ ?_ 0 0 (Nat.zero_le _) ⟨rfl, rfl⟩
    · obtain ⟨t, l1, l2⟩ := l
      have hN50 : ¬ (20 : Int32) < nI y := nI_nlt (a := 20) (by omega) (by decide)
      cases t with
      | inl u =>
        obtain ⟨J1, g1, g2, -, g4⟩ := F_goT_ok (h0.cf e2) hp (by rw [e1]; exact sInv_it hp hi y)
        refine Or.inl ⟨(nI (y + 1), J1), ?_, rfl, by rw [sp_it, ← e1]; exact g2, e2.tr g4, zal_t e3 l2⟩
        dsimp only
        simp only [F_X1_isSpied_L2, if_neg hN50, l1, zs1, ↓zka_eq k0, d1000, ↓reduceIte, zg_true, zb1_e, zb2_e, zb3_e, zsum, zlet_e, nI_1, f0, f4, ↓zka_eq tk, g1]
      | inr z =>
        refine Or.inr ⟨.inr (0, J), ?_, e2, rfl, zal_f (p := fun y => sp_ok Sp (sp_it P S y) y) l2.2 21 hy⟩
        dsimp only
        simp only [F_X1_isSpied_L2, if_neg hN50, l1, zs1]
        rw [l2.1]
    · rintro k _ hk ⟨rfl, q⟩
      obtain ⟨c10, c11, c12⟩ := c9 k hk
      have hsb := hsi.2 k hk
      have hst : J 1854 (Sp.2.1 k) = sp_it P S y 6 (Sp.2.1 k) := by rw [← e1]; exact (zcv6 hsb).symm
      by_cases g1 : Sp.2.2.1 k = nI y
      · by_cases g2 : sp_it P S y 6 (Sp.2.1 k) = Sp.2.2.2 k
        · refine Or.inl ⟨nI (k + 1), ?_, rfl, zal_t q (by simp [sp_okk, g2])⟩
          simp only [F_X1_isSpied_L10, ↓zka_eq k0, d1000, d1013, d1847, ↓reduceIte, zg_true, zb1_e, zb2_e, zb3_e, zsum, zlet_e, nI_1, f1, f4, ↓zka_eq c1, c8, nI_ge hk (show Sp.1 < 2 ^ 31 by omega), c2, c3, c4, ↓zka_eq c5, ↓zka_eq c6, ↓zka_eq c7, zin_n (show k < 8 by omega), nI_c (show k < 2147483648 by omega), c10, c11, c12, g1, not_true_eq_false, if_false, ↓zka_eq tk, tf6, ↓zka_eq tk7, zin_n (show Sp.2.1 k < 6 by omega), nI_c (show Sp.2.1 k < 2147483648 by omega), hst, if_pos g2]
        · refine Or.inr ⟨.inr (0, J), ?_, rfl, zal_f (k := k) (by simp [sp_okk, g1, g2]) _ hk⟩
          simp only [F_X1_isSpied_L10, ↓zka_eq k0, d1000, d1013, d1847, ↓reduceIte, zg_true, zb1_e, zb2_e, zb3_e, zsum, zlet_e, nI_1, f1, f4, ↓zka_eq c1, c8, nI_ge hk (show Sp.1 < 2 ^ 31 by omega), c2, c3, c4, ↓zka_eq c5, ↓zka_eq c6, ↓zka_eq c7, zin_n (show k < 8 by omega), nI_c (show k < 2147483648 by omega), c10, c11, c12, g1, not_true_eq_false, if_false, ↓zka_eq tk, tf6, ↓zka_eq tk7, zin_n (show Sp.2.1 k < 6 by omega), nI_c (show Sp.2.1 k < 2147483648 by omega), hst, if_neg g2]
      · refine Or.inl ⟨nI (k + 1), ?_, rfl, zal_t q (by simp [sp_okk, g1])⟩
        simp only [F_X1_isSpied_L10, ↓zka_eq k0, d1000, d1013, d1847, ↓reduceIte, zg_true, zb1_e, zb2_e, zb3_e, zsum, zlet_e, nI_1, f1, f4, ↓zka_eq c1, c8, nI_ge hk (show Sp.1 < 2 ^ 31 by omega), c2, c3, c4, ↓zka_eq c5, ↓zka_eq c6, ↓zka_eq c7, zin_n (show k < 8 by omega), nI_c (show k < 2147483648 by omega), c10, c11, c12, g1, not_false_eq_true, if_true]
    · rintro _ ⟨rfl, q⟩
      refine ⟨.inl (), ?_, q⟩
      simp only [F_X1_isSpied_L10, ↓zka_eq k0, d1000, d1013, ↓reduceIte, zg_true, zb1_e, zb2_e, zb3_e, zsum, zlet_e, nI_1, f1, ↓zka_eq c1, c8, ↓reduceIte, nI_le (Nat.le_refl (Sp.1)) (show Sp.1 < 2 ^ 31 by omega)]
  · rintro ⟨_, J⟩ ⟨rfl, e1, e2, e3⟩
    exact ⟨.inl J, rfl, e2, e3⟩
theorem zpkd.mv {fr : Nat} {I J : zId} {a0 : Nat} (h : zpkd a0 fr I J) (ha : a0 ≠ 1860 ∧ (a0 < 1875 ∨ 1882 < a0) ∧ a0 ≠ 1868) {nf nb : Nat} : zmv2 nf nb J = zmv2 nf nb I := zmv2_cg fun x k hk => by
  refine congrFun (h.1 x ?_) k
  intro e
  subst e
  simp [zmok] at hk
  omega
theorem F7_isAs_ok (hQ : zMQ I P X) (hp : pInv P) (hi : sInv P (zmv2 (pnf P) (pnb P) I)) (hs : zMSp I Sp) (hsi : spInv P Sp) : ∃ J, F_X7_isAsSpied I = some (q_b (sp_sp P Sp (zmv2 (pnf P) (pnb P) I)), J) ∧ zmv2 (pnf P) (pnb P) J = zmv2 (pnf P) (pnb P) I ∧ zmf I J ∧ (∀ x, (x < 1875 ∨ 1885 < x) → x ≠ 1860 → x ≠ 1893 → J x = I x) ∧ (∀ k, (k < 34 ∨ 37 ≤ k) → k ≠ 41 → J 1860 k = I 1860 k) := by
  obtain ⟨I1, g1, g2⟩ := F7_pack_ok (I := I) (a0 := 1893) (n0 := 57) (fr := 0) (by decide) (by decide) (by decide)
  have g3 : zmv2 (pnf P) (pnb P) I1 = zmv2 (pnf P) (pnb P) I := g2.mv (by decide)
  have hsp := hs.mf g2.mf3
  have hm8 := hsi.1
  have hnb := hp.2.1
  generalize hS : (zmv2 (pnf P) (pnb P) I) = S at *
  have s := zloop_up (body := fun s : Int32 × Int32 × zId => F_X7_isAsSpied_L13 s.1 s.2.1 s.2.2) (fun y s => s.2.1 = nI y ∧ zmfr I1 s.2.2 ∧ ((s.1 = 1 ∧ zmv2 (pnf P) (pnb P) s.2.2 = sp_it P S y ∧ zal (fun y => sp_ok Sp (sp_it P S y) y) y = true) ∨ (s.1 = 0 ∧ sp_sp P Sp S = false))) (fun t => zmfr I1 t.2 ∧ t.1 = q_b (sp_sp P Sp S)) 21 ?_ ?_ 0 (1, 0, I1) (Nat.zero_le _) ⟨rfl, zmfr.rf, Or.inl ⟨rfl, g3, rfl⟩⟩
  · obtain ⟨⟨v, J⟩, s1, s2, s3⟩ := s
    dsimp only at s2 s3
    obtain ⟨J2, u1, u2⟩ := F7_unpack_ok (I := J) (a0 := 1893) (n0 := 57) (fr := 0) (by decide) (by decide) (by decide)
    have hr : J 1893 = I1 1893 := s2.row fun k => by simp [zdyn]
    have hB : J 1868 = I 1868 := by rw [s2.row (x := 1868) fun k => by simp [zdyn], g2.1 _ (by decide)]
    refine ⟨J2, ?_, ?_, (g2.mf3.tr s2.mf).tr u2.mf, fun x h1 h2 h3 => ?_, fun k h1 h2 => ?_⟩
    · subst s3
      have hz : (decide (q_b (sp_sp P Sp S) = 0) || decide (q_b (sp_sp P Sp S) = 1)) = true := by cases sp_sp P Sp S <;> decide
      simp only [F_X7_isAsSpied]
      rw [show (0 : Int32) = nI 0 from rfl, g1]
      simp only [zb1_e]
      rw [show nI 0 = (0 : Int32) from rfl, s1]
      simp only [zb1_e, zn2]
      rw [show (0 : Int32) = nI 0 from rfl, u1]
      simp only [zb1_e]
      rw [show nI 0 = (0 : Int32) from rfl, hz, zg_true]
    · rw [u2.mv hp.1 hp.2.1, hr, g2.rv hp.1 hp.2.1 _ (fun j _ => by rw [hB]), hS]
    · rw [u2.1 x (by omega) h2, s2.row (x := x) fun k => by simp [zdyn]; omega, g2.1 x h3]
    · rw [u2.2.1 k h1, s2 1860 k (by simp [zdyn]; omega), g2.1 1860 (by decide)]
  · rintro y ⟨v, _, J⟩ hy ⟨rfl, e1, e2⟩
    dsimp only at e1 e2
    have hN50 : ¬ (20 : Int32) < nI y := nI_nlt (a := 20) (by omega) (by decide)
    rcases e2 with ⟨rfl, e2, e3⟩ | ⟨rfl, e3⟩
    · obtain ⟨c8, c9⟩ := hsp.mf e1.mf
      have l := zloop_up (body := fun s : Int32 × Int32 => F_X7_isAsSpied_L25 (nI y) J s.1 s.2) (fun k s => s = (q_b (zal (sp_okk Sp (sp_it P S y) y) k), nI k)) (fun t => t = q_b (sp_ok Sp (sp_it P S y) y)) Sp.1 ?_ ?_ 0 (1, 0) (Nat.zero_le _) rfl
      · obtain ⟨t, l1, l2⟩ := l
        have hQJ : zMQ J P X := (hQ.mf g2.mf3).mf e1.mf
        obtain ⟨J1, m1, m2, -, m4⟩ := F7_aYear_ok hQJ.1 hp (by rw [e2]; exact sInv_it hp hi y)
        refine Or.inl ⟨(t, nI (y + 1), J1), ?_, rfl, e1.tr m4, ?_⟩
        · dsimp only
          simp only [F_X7_isAsSpied_L13, if_neg hN50, if_neg (show ¬ (1 : Int32) = 0 by decide), l1, ↓reduceIte, zg_true, zb1_e, zb2_e, zb3_e, zsum, zlet_e, nI_1, m1]
        · dsimp only
          rw [l2]
          cases hb : sp_ok Sp (sp_it P S y) y with
          | true => exact Or.inl ⟨rfl, by rw [sp_it, ← e2]; exact m2, zal_t e3 hb⟩
          | false => exact Or.inr ⟨rfl, zal_f (p := fun y => sp_ok Sp (sp_it P S y) y) hb 21 hy⟩
      · rintro k _ hk rfl
        obtain ⟨c10, c11, c12⟩ := c9 k hk
        have hsb := hsi.2 k hk
        have hst : J 1880 (Sp.2.1 k) = sp_it P S y 6 (Sp.2.1 k) := by rw [← e2]; exact (zmv26 hsb).symm
        refine Or.inl ⟨(q_b (zal (sp_okk Sp (sp_it P S y) y) (k + 1)), nI (k + 1)), ?_, rfl⟩
        dsimp only
        rw [zal]
        cases hz : zal (sp_okk Sp (sp_it P S y) y) k with
        | false => simp only [F_X7_isAsSpied_L25, c8, nI_ge hk (show Sp.1 < 2 ^ 31 by omega), q_b, Bool.false_eq_true, if_false, if_true, ↓reduceIte, zg_true, zb1_e, zb2_e, zb3_e, zsum, zlet_e, nI_1, Bool.false_and]
        | true =>
          by_cases g1 : Sp.2.2.1 k = nI y
          · by_cases g2 : sp_it P S y 6 (Sp.2.1 k) = Sp.2.2.2 k
            · have : sp_okk Sp (sp_it P S y) y k = true := by simp [sp_okk, g2]
              rw [this]
              simp only [F_X7_isAsSpied_L25, c8, nI_ge hk (show Sp.1 < 2 ^ 31 by omega), q_b, if_true, ↓reduceIte, zg_true, zb1_e, zb2_e, zb3_e, zsum, zlet_e, nI_1, Bool.and_true, if_neg (show ¬ (1 : Int32) = 0 by decide), zin_n (show k < 8 by omega), nI_c (show k < 2147483648 by omega), c10, c11, c12, g1, not_true_eq_false, if_false, zin_n (show Sp.2.1 k < 6 by omega), nI_c (show Sp.2.1 k < 2147483648 by omega), hst, g2]
            · have : sp_okk Sp (sp_it P S y) y k = false := by simp [sp_okk, g1, g2]
              rw [this]
              simp only [F_X7_isAsSpied_L25, c8, nI_ge hk (show Sp.1 < 2 ^ 31 by omega), q_b, if_true, ↓reduceIte, zg_true, zb1_e, zb2_e, zb3_e, zsum, zlet_e, nI_1, Bool.and_false, if_neg (show ¬ (1 : Int32) = 0 by decide), zin_n (show k < 8 by omega), nI_c (show k < 2147483648 by omega), c10, c11, c12, g1, not_true_eq_false, if_false, zin_n (show Sp.2.1 k < 6 by omega), nI_c (show Sp.2.1 k < 2147483648 by omega), hst, g2, not_false_eq_true, Bool.false_eq_true]
          · have : sp_okk Sp (sp_it P S y) y k = true := by simp [sp_okk, g1]
            rw [this]
            simp only [F_X7_isAsSpied_L25, c8, nI_ge hk (show Sp.1 < 2 ^ 31 by omega), q_b, if_true, ↓reduceIte, zg_true, zb1_e, zb2_e, zb3_e, zsum, zlet_e, nI_1, Bool.and_true, if_neg (show ¬ (1 : Int32) = 0 by decide), zin_n (show k < 8 by omega), nI_c (show k < 2147483648 by omega), c10, c11, c12, g1, not_false_eq_true]
      · rintro _ rfl
        dsimp only
        simp only [F_X7_isAsSpied_L25, c8, ↓reduceIte, nI_le (Nat.le_refl (Sp.1)) (show Sp.1 < 2 ^ 31 by omega)]
        exact ⟨_, rfl, rfl⟩
    · refine Or.inr ⟨(0, J), ?_, e1, by rw [e3]; rfl⟩
      dsimp only
      simp only [F_X7_isAsSpied_L13, if_neg hN50, if_true]
  · rintro ⟨v, _, J⟩ ⟨rfl, e1, e2⟩
    dsimp only at e1 e2
    refine ⟨(v, J), rfl, e1, ?_⟩
    rcases e2 with ⟨rfl, e2, e3⟩ | ⟨rfl, e3⟩
    · show (1 : Int32) = q_b (zal _ 21); rw [e3]; rfl
    · rw [e3]; rfl
end L23
