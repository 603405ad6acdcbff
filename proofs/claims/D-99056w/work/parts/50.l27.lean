/-! L27: look -/
section L27
variable {K : zKd} {F : zFd} {I : zId} {a N : Nat} {P : zP} {X : zXd} {Sp : zSpd}
theorem F_goT_fr (h : zCQ K F I a N P X) (hp : pInv P) (hi : sInv P (zcv (pnf P) (pnb P) I 1847)) : ∃ I', F_X6_goes K F 1847 a I = some I' ∧ zcv (pnf P) (pnb P) I' 1847 = sp_ye P (zcv (pnf P) (pnb P) I 1847) ∧ I' 1847 12 = sp_lb P (zcv (pnf P) (pnb P) I 1847) ∧ zfr 1847 (a + 11) I I' := F_goes_ok h.2.2.2.1.2 h.2.2.2.2.1 hp h.tr hi
theorem F_goesBy_fr (h : zCQ K F I a N P X) (hp : pInv P) (hi : sInv P (zcv (pnf P) (pnb P) I 1847)) {n : Nat} (hn : n < 2147483648) : ∃ J, F_X1_goesBy K F 1000 (nI n) I = some J ∧ zcv (pnf P) (pnb P) J 1847 = sp_it P (zcv (pnf P) (pnb P) I 1847) n ∧ zfr 1847 (a + 11) I J := by
  have s := zloop_up (body := fun s : Int32 × zId => F_X1_goesBy_L2 K F 1000 (nI n) s.1 s.2) (fun i s => s.1 = nI i ∧ zcv (pnf P) (pnb P) s.2 1847 = sp_it P (zcv (pnf P) (pnb P) I 1847) i ∧ zfr 1847 (a + 11) I s.2) (fun t => zcv (pnf P) (pnb P) t 1847 = sp_it P (zcv (pnf P) (pnb P) I 1847) n ∧ zfr 1847 (a + 11) I t) n ?_ ?_ 0 (0, I) (Nat.zero_le _) ⟨rfl, rfl, fun _ _ _ => rfl⟩
  · obtain ⟨J, h1, h2, h3⟩ := s
    exact ⟨J, by simp only [F_X1_goesBy, h1, zb1_e], h2, h3⟩
  · rintro i ⟨_, J⟩ hib ⟨rfl, e1, e3⟩
    dsimp only at e1 e3
    have hiJ : sInv P (zcv (pnf P) (pnb P) J 1847) := by rw [e1]; exact sInv_it hp hi i
    obtain ⟨J1, g1, g2, -, g4⟩ := F_goT_fr (h.cf e3.cf) hp hiJ
    obtain ⟨k0, ⟨f0, _, _, _, f4, _⟩, -, ⟨-, hT⟩, -⟩ := h
    refine Or.inl ⟨(nI (i + 1), J1), ?_, rfl, ?_, e3.tr g4⟩
    · dsimp only
      simp only [F_X1_goesBy_L2, if_neg (nI_ge hib (show n < 2 ^ 31 by omega)), ↓zka_eq k0, decide_eq_true (show 600 ≤ 1000 by decide), zg_true, f0, f4, zb1_e, ↓zka_eq hT.2.1, g1, zlet_e, nI_1]
    · dsimp only
      rw [g2, e1, sp_it]
  · rintro ⟨_, J⟩ ⟨rfl, e1, e3⟩
    refine ⟨J, ?_, e1, e3⟩
    dsimp only
    simp only [F_X1_goesBy_L2, if_pos (nI_le (Nat.le_refl n) (show n < 2 ^ 31 by omega))]
theorem F_isSpied_fr (h : zCQ K F I a N P X) (hp : pInv P) (hi : sInv P (zcv (pnf P) (pnb P) I 1847)) (hs : zCSp K F I Sp) (hsi : spInv P Sp) : ∃ J, F_X1_isSpied K F 1000 I = some (q_b (sp_sp P Sp (zcv (pnf P) (pnb P) I 1847)), J) ∧ zfr 1847 (a + 11) I J := by
  obtain ⟨h1, h2⟩ := F_tl_ok h
  have e0 : zcv (pnf P) (pnb P) (zlk I 1847 1014) 1847 = zcv (pnf P) (pnb P) I 1014 := zlk_cv hp.1 hp.2.1 (by decide)
  have h0 := h
  have hnf := hp.1
  have hnb := hp.2.1
  obtain ⟨k0, ⟨f0, f1, f2, f3, f4, f6, f9, f10⟩, ⟨kt, kw, ks⟩, ⟨hN, hT⟩, hL, hQ, hd⟩ := h
  generalize hS : zcv (pnf P) (pnb P) I 1847 = S at *
  have s := zloop_up (body := fun s : Int32 × zId => F_X1_isSpied_L2 K F 1000 s.1 s.2) (fun y s => s.1 = nI y ∧ zcv (pnf P) (pnb P) s.2 1847 = sp_it P S y ∧ zfr 1847 (a + 11) I s.2 ∧ zal (fun y => sp_ok Sp (sp_it P S y) y) y = true) (fun t => match t with | .inl J => zfr 1847 (a + 11) I J ∧ sp_sp P Sp S = true | .inr (v, J) => zfr 1847 (a + 11) I J ∧ v = 0 ∧ sp_sp P Sp S = false) 21 ?_ ?_ 0 (0, I) (Nat.zero_le _) ⟨rfl, hS, fun _ _ _ => rfl, rfl⟩
  · obtain ⟨t, s1, s2⟩ := s
    cases t with
    | inl J => exact ⟨J, by simp only [F_X1_isSpied, s1, zs1]; rw [s2.2]; rfl, s2.1⟩
    | inr z =>
      obtain ⟨v, J⟩ := z
      exact ⟨J, by simp only [F_X1_isSpied, s1, zs1]; rw [s2.2.2, s2.2.1]; rfl, s2.1⟩
  · rintro y ⟨_, J⟩ hy ⟨rfl, e1, e2, e3⟩
    dsimp only at e1 e2
    obtain ⟨⟨c1, c2, c3, c4, c5, c6, c7⟩, c8, c9⟩ := hs.cf (by omega) e2.cf
    have hm8 := hsi.1
    have hT0 := hT
    obtain ⟨t6, tk, ⟨-, -, -, -, -, -, tf6, -, -⟩, -, -, -, -, -, -, tk7, -, -⟩ := hT
    have d1013 : decide (600 ≤ 1013) = true := rfl
    have l := zloop_up (body := fun s : Int32 => F_X1_isSpied_L10 K F 1000 (nI y) J s) (fun k s => s = nI k ∧ zal (sp_okk Sp (sp_it P S y) y) k = true) (fun t => match t with | .inl _ => sp_ok Sp (sp_it P S y) y = true | .inr z => z = (0, J) ∧ sp_ok Sp (sp_it P S y) y = false) Sp.1 ?_ ?_ 0 0 (Nat.zero_le _) ⟨rfl, rfl⟩
    · obtain ⟨t, l1, l2⟩ := l
      have hN50 : ¬ (20 : Int32) < nI y := nI_nlt (a := 20) (by omega) (by decide)
      cases t with
      | inl u =>
        obtain ⟨J1, g1, g2, -, g4⟩ := F_goT_fr (h0.cf e2.cf) hp (by rw [e1]; exact sInv_it hp hi y)
        refine Or.inl ⟨(nI (y + 1), J1), ?_, rfl, by rw [sp_it, ← e1]; exact g2, e2.tr g4, zal_t e3 l2⟩
        dsimp only
        simp only [F_X1_isSpied_L2, if_neg hN50, l1, zs1, ↓zka_eq k0, d1000, ↓reduceIte, zg_true, zb1_e, zb2_e, zb3_e, zsum, zlet_e, nI_1, f0, f4, ↓zka_eq tk, g1]
      | inr z =>
        refine Or.inr ⟨.inr (0, J), ?_, e2, rfl, zal_f (p := fun y => sp_ok Sp (sp_it P S y) y) l2.2 21 hy⟩
        dsimp only
        simp only [F_X1_isSpied_L2, if_neg hN50, l1, zs1]
        rw [l2.1]
    · rintro k _ hk ⟨rfl, q⟩
      obtain ⟨c10, c11, c12⟩ := c9 k hk
      have hsb := hsi.2 k hk
      have hst : J 1854 (Sp.2.1 k) = sp_it P S y 6 (Sp.2.1 k) := by rw [← e1]; exact (zcv6 hsb).symm
      by_cases g1 : Sp.2.2.1 k = nI y
      · by_cases g2 : sp_it P S y 6 (Sp.2.1 k) = Sp.2.2.2 k
        · refine Or.inl ⟨nI (k + 1), ?_, rfl, zal_t q (by simp [sp_okk, g2])⟩
          simp only [F_X1_isSpied_L10, ↓zka_eq k0, d1000, d1013, d1847, ↓reduceIte, zg_true, zb1_e, zb2_e, zb3_e, zsum, zlet_e, nI_1, f1, f4, ↓zka_eq c1, c8, nI_ge hk (show Sp.1 < 2 ^ 31 by omega), c2, c3, c4, ↓zka_eq c5, ↓zka_eq c6, ↓zka_eq c7, zin_n (show k < 8 by omega), nI_c (show k < 2147483648 by omega), c10, c11, c12, g1, not_true_eq_false, if_false, ↓zka_eq tk, tf6, ↓zka_eq tk7, zin_n (show Sp.2.1 k < 6 by omega), nI_c (show Sp.2.1 k < 2147483648 by omega), hst, if_pos g2]
        · refine Or.inr ⟨.inr (0, J), ?_, rfl, zal_f (k := k) (by simp [sp_okk, g1, g2]) _ hk⟩
          simp only [F_X1_isSpied_L10, ↓zka_eq k0, d1000, d1013, d1847, ↓reduceIte, zg_true, zb1_e, zb2_e, zb3_e, zsum, zlet_e, nI_1, f1, f4, ↓zka_eq c1, c8, nI_ge hk (show Sp.1 < 2 ^ 31 by omega), c2, c3, c4, ↓zka_eq c5, ↓zka_eq c6, ↓zka_eq c7, zin_n (show k < 8 by omega), nI_c (show k < 2147483648 by omega), c10, c11, c12, g1, not_true_eq_false, if_false, ↓zka_eq tk, tf6, ↓zka_eq tk7, zin_n (show Sp.2.1 k < 6 by omega), nI_c (show Sp.2.1 k < 2147483648 by omega), hst, if_neg g2]
      · refine Or.inl ⟨nI (k + 1), ?_, rfl, zal_t q (by simp [sp_okk, g1])⟩
        simp only [F_X1_isSpied_L10, ↓zka_eq k0, d1000, d1013, d1847, ↓reduceIte, zg_true, zb1_e, zb2_e, zb3_e, zsum, zlet_e, nI_1, f1, f4, ↓zka_eq c1, c8, nI_ge hk (show Sp.1 < 2 ^ 31 by omega), c2, c3, c4, ↓zka_eq c5, ↓zka_eq c6, ↓zka_eq c7, zin_n (show k < 8 by omega), nI_c (show k < 2147483648 by omega), c10, c11, c12, g1, not_false_eq_true, if_true]
    · rintro _ ⟨rfl, q⟩
      refine ⟨.inl (), ?_, q⟩
      simp only [F_X1_isSpied_L10, ↓zka_eq k0, d1000, d1013, ↓reduceIte, zg_true, zb1_e, zb2_e, zb3_e, zsum, zlet_e, nI_1, f1, ↓zka_eq c1, c8, ↓reduceIte, nI_le (Nat.le_refl (Sp.1)) (show Sp.1 < 2 ^ 31 by omega)]
  · rintro ⟨_, J⟩ ⟨rfl, e1, e2, e3⟩
    exact ⟨.inl J, rfl, e2, e3⟩
theorem F_isGuess_fr (h : zCQ K F I a N P X) (hp : pInv P) (hi : sInv P (zcv (pnf P) (pnb P) I 1014)) {g : Nat} (hg : g < pnb P * 30) : ((zcv (pnf P) (pnb P) I 1014) 3 (g / 30) = nI (g % 30 + 1) ∧ F_X1_isGuess K F 1000 (nI g) I = some (0, I)) ∨ (¬ (zcv (pnf P) (pnb P) I 1014) 3 (g / 30) = nI (g % 30 + 1) ∧ ∃ J, F_X1_isGuess K F 1000 (nI g) I = some (1, J) ∧ zcv (pnf P) (pnb P) J 1847 = zu (zcv (pnf P) (pnb P) I 1014) 3 (g / 30) (nI (g % 30 + 1)) ∧ zfr 1847 (a + 11) I J) := by
  obtain ⟨h1, h2⟩ := F_tl_ok h
  have e0 : zcv (pnf P) (pnb P) (zlk I 1847 1014) 1847 = zcv (pnf P) (pnb P) I 1014 := zlk_cv hp.1 hp.2.1 (by decide)
  have h0 := h
  have hnf := hp.1
  have hnb := hp.2.1
  obtain ⟨k0, ⟨f0, f1, f2, f3, f4, f6, f9, f10⟩, ⟨kt, kw, ks⟩, ⟨hN, hT⟩, hL, hQ, hd⟩ := h
  have hb : g / 30 < pnb P := by omega
  have e3 : (zcv (pnf P) (pnb P) I 1014) 3 (g / 30) = I 1018 (g / 30) := zcv3 hb
  have ed : nI g / 30 = nI (g / 30) := nI_div (b := 30) (by omega) (by decide) (by decide)
  have em : (nI g - nI (g / 30) * 30) + 1 = nI (g % 30 + 1) := by
    rw [show nI (g / 30) * 30 = nI (g / 30 * 30) from nI_mul (b := 30) (by omega) (by omega) (by decide), nI_sub (by omega) (by omega), nI_1]
    congr 1
    omega
  obtain ⟨t6, tk, ⟨-, -, -, tf3, -⟩, -, -, -, tk4, -⟩ := hT
  obtain ⟨n6, nk, ⟨-, -, -, nf3, -⟩, -, -, -, nk4, -⟩ := hN
  rw [e3]
  by_cases c : I 1018 (g / 30) = nI (g % 30 + 1)
  · refine Or.inl ⟨c, ?_⟩
    simp only [F_X1_isGuess, ↓reduceIte, zg_true, zb1_e, zb2_e, zb3_e, zsum, zlet_e, nI_1, ed, em, ↓zka_eq k0, d1000, d1014, f3, ↓zka_eq nk, nf3, ↓zka_eq nk4, zin_n (show g / 30 < 6 by omega), nI_c (show g / 30 < 2147483648 by omega), c, not_true_eq_false, if_false]
  · refine Or.inr ⟨c, zu (zlk I 1847 1014) 1851 (g / 30) (nI (g % 30 + 1)), ?_, ?_, fun x hx _ => by rw [zu_row (by omega)]; exact zlk_off (by omega)⟩
    · simp only [F_X1_isGuess, zg_true, zb1_e, zlet_e, ed, em, ↓zka_eq k0, d1000, d1014, d1847, f3, f4, ↓zka_eq nk, ↓zka_eq tk, nf3, tf3, ↓zka_eq nk4, ↓zka_eq tk4, zin_n (show g / 30 < 6 by omega), nI_c (show g / 30 < 2147483648 by omega), if_pos c, h1, decide_eq_true (show 600 ≤ 1847 + 4 by decide)]
    · rw [← e0]; exact zcvu3 (o := 1847) hb
def sp_R (P : zP) (S : zS) (g q : Nat) : Int32 := sp_it P (zu S 3 (g / 30) (nI (g % 30 + 1))) 5 6 q
/-- how many of the first len rows are new at q -/
def sp_un (P : zP) (S : zS) (l : List Nat) (q : Nat) : Int32 := zcn (fun i => zal (fun k => !(decide (sp_R P S (l.getD i 0) q = sp_R P S (l.getD k 0) q))) i) l.length
def q_look (P : zP) (Sp : zSpd) (S : zS) (w : Int32) : Int32 ⊕ Nat := q_in w 1 1 fun w => .inl (if w = 0 then (zbst (sp_un P S (sp_gl P Sp S (pnb P * 30))) (pnb P)).1 else (zbst (sp_un P S (sp_gl P Sp S (pnb P * 30))) (pnb P)).2)
/-- rows of stores in a table -/
def zrw (P : zP) (S : zS) (T : Nat → Int32) (l : List Nat) : Prop := ∀ i q, i < l.length → q < pnb P → T (6 * i + q) = sp_R P S (l.getD i 0) q
theorem F_unlike_ok (h : zCQ K F I a N P X) (hp : pInv P) {S : zS} {l : List Nat} (hl : l.length ≤ 180) (hr : zrw P S (I 1859) l) {q : Nat} (hq : q < pnb P) : F_X1_unlike K F 1000 (nI q) (nI l.length) I = some (sp_un P S l q) := by
  have hnb := hp.2.1
  obtain ⟨k0, ⟨-, -, -, -, -, -, -, f10⟩, ⟨-, -, ks⟩, -⟩ := h
  have s := zloop_up (body := fun s : Int32 × Int32 => F_X1_unlike_L5 K F 1000 (nI q) (nI l.length) I s.1 s.2) (fun i s => s = (zcn (fun i => zal (fun k => !(decide (sp_R P S (l.getD i 0) q = sp_R P S (l.getD k 0) q))) i) i, nI i)) (fun t => t = sp_un P S l q) l.length ?_ ?_ 0 (0, 0) (Nat.zero_le _) rfl
  · obtain ⟨t, s1, rfl⟩ := s
    simp only [F_X1_unlike, s1, zb1_e]
  · rintro i _ hil rfl
    have s := zloop_up (body := fun s : Int32 × Int32 => F_X1_unlike_L17 K F 1000 (nI q) I (nI i) s.1 s.2) (fun k s => s = (q_b (zal (fun k => !(decide (sp_R P S (l.getD i 0) q = sp_R P S (l.getD k 0) q))) k), nI k)) (fun t => t = q_b (zal (fun k => !(decide (sp_R P S (l.getD i 0) q = sp_R P S (l.getD k 0) q))) i)) i ?_ ?_ 0 (1, 0) (Nat.zero_le _) rfl
    · obtain ⟨t, s1, rfl⟩ := s
      refine Or.inl ⟨(zcn (fun i => zal (fun k => !(decide (sp_R P S (l.getD i 0) q = sp_R P S (l.getD k 0) q))) i) (i + 1), nI (i + 1)), ?_, rfl⟩
      dsimp only
      rw [zcn]
      cases hz : zal (fun k => !(decide (sp_R P S (l.getD i 0) q = sp_R P S (l.getD k 0) q))) i <;> simp only [F_X1_unlike_L5, ↓reduceIte, zg_true, zb1_e, zb2_e, zb3_e, zsum, zlet_e, nI_1, nI_ge hil (show l.length < 2 ^ 31 by omega), s1, hz, q_b, Bool.false_eq_true, show ¬ (1 : Int32) = 0 by decide]
    · rintro k _ hk rfl
      dsimp only
      have e6 : ∀ j, j < 180 → (6 : Int32) * nI j + nI q = nI (6 * j + q) := fun j hj => by rw [show (6 : Int32) * nI j = nI (6 * j) from nI_mul (a := 6) (by omega) (by decide) (by omega), nI_add]
      cases hz : zal (fun k => !(decide (sp_R P S (l.getD i 0) q = sp_R P S (l.getD k 0) q))) k with
      | false =>
        refine Or.inr ⟨q_b false, ?_, ?_⟩
        · simp only [F_X1_unlike_L17, ↓reduceIte, zg_true, zb1_e, zb2_e, zb3_e, zsum, zlet_e, nI_1, nI_ge hk (show i < 2 ^ 31 by omega), q_b, Bool.false_eq_true]
        · have : zal (fun k => !(decide (sp_R P S (l.getD i 0) q = sp_R P S (l.getD k 0) q))) i = false := by
            have key : ∀ n, zal (fun k => !(decide (sp_R P S (l.getD i 0) q = sp_R P S (l.getD k 0) q))) (k + n) = false := by
              intro n
              induction n with
              | zero => exact hz
              | succ n ih => rw [← Nat.add_assoc, zal, ih]; rfl
            have := key (i - k)
            rwa [show k + (i - k) = i by omega] at this
          rw [this]
      | true =>
        have ri := hr i q (by omega) hq
        have rk := hr k q (by omega) hq
        by_cases c : sp_R P S (l.getD i 0) q = sp_R P S (l.getD k 0) q
        · refine Or.inl ⟨(q_b (zal (fun k => !(decide (sp_R P S (l.getD i 0) q = sp_R P S (l.getD k 0) q))) (k + 1)), nI (k + 1)), ?_, rfl⟩
          rw [zal, hz, decide_eq_true c]
          simp only [F_X1_unlike_L17, ↓reduceIte, zg_true, zb1_e, zb2_e, zb3_e, zsum, zlet_e, nI_1, nI_ge hk (show i < 2 ^ 31 by omega), q_b, show ¬ (1 : Int32) = 0 by decide, ↓zka_eq k0, d1000, f10, ↓zka_eq ks, e6 i (by omega), e6 k (by omega), zin_n (show 6 * i + q < 1080 by omega), zin_n (show 6 * k + q < 1080 by omega), nI_c (show 6 * i + q < 2147483648 by omega), nI_c (show 6 * k + q < 2147483648 by omega), ri, rk, c, Bool.not_true, Bool.and_false, Bool.false_eq_true]
        · refine Or.inl ⟨(q_b (zal (fun k => !(decide (sp_R P S (l.getD i 0) q = sp_R P S (l.getD k 0) q))) (k + 1)), nI (k + 1)), ?_, rfl⟩
          rw [zal, hz, decide_eq_false c]
          simp only [F_X1_unlike_L17, ↓reduceIte, zg_true, zb1_e, zb2_e, zb3_e, zsum, zlet_e, nI_1, nI_ge hk (show i < 2 ^ 31 by omega), q_b, show ¬ (1 : Int32) = 0 by decide, ↓zka_eq k0, d1000, f10, ↓zka_eq ks, e6 i (by omega), e6 k (by omega), zin_n (show 6 * i + q < 1080 by omega), zin_n (show 6 * k + q < 1080 by omega), nI_c (show 6 * i + q < 2147483648 by omega), nI_c (show 6 * k + q < 2147483648 by omega), ri, rk, c, Bool.not_false, Bool.and_self]
    · rintro _ rfl
      dsimp only
      simp only [F_X1_unlike_L17, ↓reduceIte, nI_le (Nat.le_refl (i)) (show i < 2 ^ 31 by omega)]
      exact ⟨_, rfl, rfl⟩
  · rintro _ rfl
    dsimp only
    simp only [F_X1_unlike_L5, ↓reduceIte, nI_le (Nat.le_refl (l.length)) (show l.length < 2 ^ 31 by omega)]
    exact ⟨_, rfl, rfl⟩
theorem zrw_app {S : zS} {T T' : Nat → Int32} {l : List Nat} {g : Nat} (h : zrw P S T l) (h1 : ∀ j, j < 6 * l.length → T' j = T j) (h2 : ∀ q, q < pnb P → T' (6 * l.length + q) = sp_R P S g q) (hb : pnb P ≤ 6) : zrw P S T' (l ++ [g]) := by
  intro i q hi hq
  rw [List.length_append, List.length_singleton] at hi
  by_cases e : i = l.length
  · subst e
    rw [h2 q hq]
    simp
  · rw [h1 _ (by omega), h i q (by omega) hq]
    congr 1
    simp only [List.getD_eq_getElem?_getD]
    rw [List.getElem?_append_left (by omega)]
theorem F_look_ok (h : zCQ K F I a N P X) (hp : pInv P) (hi : sInv P (zcv (pnf P) (pnb P) I 1014)) (hs : zCSp K F I Sp) (hsi : spInv P Sp) (w : Int32) : ∃ J, F_X1_look K F 1000 w I = some (qC (q_look P Sp (zcv (pnf P) (pnb P) I 1014) w), J) ∧ zcf a I J := by
  obtain ⟨h1, h2⟩ := F_tl_ok h
  have e0 : zcv (pnf P) (pnb P) (zlk I 1847 1014) 1847 = zcv (pnf P) (pnb P) I 1014 := zlk_cv hp.1 hp.2.1 (by decide)
  have h0 := h
  have hnf := hp.1
  have hnb := hp.2.1
  obtain ⟨k0, ⟨f0, f1, f2, f3, f4, f6, f9, f10⟩, ⟨kt, kw, ks⟩, ⟨hN, hT⟩, hL, hQ, hd⟩ := h
  unfold q_look
  have hgs : ∀ J, zcf a I J → F_X1_guesses K F 1000 J = some (nI (pnb P * 30)) := fun J e => by
    simp only [F_X1_guesses, ↓zka_eq k0, F_bands_ok (h0.cf e), zb1_e]
    exact congrArg some (nI_mul (b := 30) (by omega) (by omega) (by decide))
  have hlen : ∀ g, (sp_gl P Sp (zcv (pnf P) (pnb P) I 1014) g).length ≤ g := fun g => zgl_len _ g
  rcases zib_cases w 1 (by decide) with ⟨w, hw, rfl⟩ | ⟨hw, hw2⟩
  · rw [q_in_ok hw (by decide)]
    have ew : F_X1_within K F (nI w) 0 1 I = some 1 := by rw [F_within_ok]; exact congrArg some (zib_nI hw (by decide))
    have hw0 : (nI w = 0) ↔ w = 0 := nI_eq (b := 0) (by omega) (by omega)
    have s := zloop_up (body := fun s : Int32 × Int32 × zId => F_X1_look_L13 K F 1000 s.1 s.2.1 s.2.2) (fun g s => s.1 = nI (sp_gl P Sp (zcv (pnf P) (pnb P) I 1014) g).length ∧ s.2.1 = nI g ∧ zcf a I s.2.2 ∧ zrw P (zcv (pnf P) (pnb P) I 1014) (s.2.2 1859) (sp_gl P Sp (zcv (pnf P) (pnb P) I 1014) g)) (fun t => t.1 = nI (sp_gl P Sp (zcv (pnf P) (pnb P) I 1014) (pnb P * 30)).length ∧ zcf a I t.2 ∧ zrw P (zcv (pnf P) (pnb P) I 1014) (t.2 1859) (sp_gl P Sp (zcv (pnf P) (pnb P) I 1014) (pnb P * 30))) (pnb P * 30) ?_ ?_ 0 (0, 0, I) (Nat.zero_le _) ⟨rfl, rfl, zcf.rf, fun i q hi => absurd hi (Nat.not_lt_zero i)⟩
    · obtain ⟨⟨_, J⟩, s1, rfl, s3, s4⟩ := s
      dsimp only at s3 s4
      refine ⟨J, ?_, s3⟩
      have hl := hlen (pnb P * 30)
      generalize sp_gl P Sp (zcv (pnf P) (pnb P) I 1014) (pnb P * 30) = l at *
      have hJ := h0.cf s3
      have u := fun q hq => F_unlike_ok hJ hp (l := l) (by omega) s4 (q := q) hq
      have s := zloop_up (body := fun s : Int32 × Int32 × Int32 => F_X1_look_L88 K F 1000 (nI l.length) J s.1 s.2.1 s.2.2) (fun i s => s = ((zbst (sp_un P (zcv (pnf P) (pnb P) I 1014) l) i).1, (zbst (sp_un P (zcv (pnf P) (pnb P) I 1014) l) i).2, nI i)) (fun t => t = zbst (sp_un P (zcv (pnf P) (pnb P) I 1014) l) (pnb P)) (pnb P) ?_ ?_ 0 (-1, 0, 0) (Nat.zero_le _) rfl
      · obtain ⟨t, t1, rfl⟩ := s
        have e2 : zn2 (fun v3_69 v4_70 => if ¬ nI w = 0 then some ((.inl v4_70 : Int32 ⊕ (String × Nat)), J) else some (.inl v3_69, J)) (zbst (sp_un P (zcv (pnf P) (pnb P) I 1014) l) (pnb P)) = if ¬ nI w = 0 then some (.inl (zbst (sp_un P (zcv (pnf P) (pnb P) I 1014) l) (pnb P)).2, J) else some (.inl (zbst (sp_un P (zcv (pnf P) (pnb P) I 1014) l) (pnb P)).1, J) := rfl
        simp only [F_X1_look, ew, ↓reduceIte, zg_true, zb1_e, zb2_e, zb3_e, zsum, zlet_e, nI_1, F_there_1, s1, zn2, t1, qC, hw0]
        by_cases c : w = 0
        · rw [if_neg (fun h => h c), if_pos c]
        · rw [if_pos c, if_neg c]
      · rintro i _ hib rfl
        dsimp only
        refine Or.inl ⟨((zbst (sp_un P (zcv (pnf P) (pnb P) I 1014) l) (i + 1)).1, (zbst (sp_un P (zcv (pnf P) (pnb P) I 1014) l) (i + 1)).2, nI (i + 1)), ?_, rfl⟩
        rw [zbst]
        by_cases c : sp_un P (zcv (pnf P) (pnb P) I 1014) l i ≤ (zbst (sp_un P (zcv (pnf P) (pnb P) I 1014) l) i).2
        · have c' : ¬ (zbst (sp_un P (zcv (pnf P) (pnb P) I 1014) l) i).2 < sp_un P (zcv (pnf P) (pnb P) I 1014) l i := by rw [iL]; have := iLe.mp c; omega
          simp only [F_X1_look_L88, ↓zka_eq k0, F_bands_ok hJ, ↓reduceIte, zg_true, zb1_e, zb2_e, zb3_e, zsum, zlet_e, nI_1, nI_ge hib (show pnb P < 2 ^ 31 by omega), u i hib, c, c']
        · have c' : (zbst (sp_un P (zcv (pnf P) (pnb P) I 1014) l) i).2 < sp_un P (zcv (pnf P) (pnb P) I 1014) l i := by rw [iL]; have := mt iLe.mpr c; omega
          simp only [F_X1_look_L88, ↓zka_eq k0, F_bands_ok hJ, ↓reduceIte, zg_true, zb1_e, zb2_e, zb3_e, zsum, zlet_e, nI_1, nI_ge hib (show pnb P < 2 ^ 31 by omega), u i hib, c, c']
      · rintro _ rfl
        dsimp only
        simp only [F_X1_look_L88, ↓zka_eq k0, F_bands_ok hJ, zb1_e, ↓reduceIte, nI_le (Nat.le_refl (pnb P)) (show pnb P < 2 ^ 31 by omega)]
        exact ⟨_, rfl, rfl⟩
    · rintro g ⟨_, _, J⟩ hg ⟨rfl, rfl, e4, e5⟩
      dsimp only at e4 e5
      have hJ := h0.cf e4
      have en := e4.now h0
      have hl := hlen g
      rcases F_isGuess_fr hJ hp (by rw [en]; exact hi) hg with ⟨c, q⟩ | ⟨c, J1, q1, q2, q3⟩
      · rw [en] at c
        have hgd : sp_gd P Sp (zcv (pnf P) (pnb P) I 1014) g = false := by simp [sp_gd, c]
        have hg1 : sp_gl P Sp (zcv (pnf P) (pnb P) I 1014) (g + 1) = sp_gl P Sp (zcv (pnf P) (pnb P) I 1014) g := by unfold sp_gl; rw [zgl, hgd]; rfl
        refine Or.inl ⟨(nI (sp_gl P Sp (zcv (pnf P) (pnb P) I 1014) g).length, nI (g + 1), J), ?_, ?_, rfl, e4, ?_⟩
        · dsimp only
          simp only [F_X1_look_L13, ↓zka_eq k0, hgs J e4, ↓reduceIte, zg_true, zb1_e, zb2_e, zb3_e, zsum, zlet_e, nI_1, nI_ge hg (show pnb P * 30 < 2 ^ 31 by omega), q]
        · rw [hg1]
        · rw [hg1]; exact e5
      · rw [en] at c q2
        have hsv : sInv P (zu (zcv (pnf P) (pnb P) I 1014) 3 (g / 30) (nI (g % 30 + 1))) := sInv_bow hi (rg_nI (n := 30) (by omega) (by decide))
        obtain ⟨J2, r1, r2⟩ := F_isSpied_fr (hJ.cf q3.cf) hp (by rw [q2]; exact hsv) (hs.cf (by omega) (e4.tr q3.cf)) hsi
        rw [q2] at r1
        have hgd : sp_gd P Sp (zcv (pnf P) (pnb P) I 1014) g = sp_sp P Sp (zu (zcv (pnf P) (pnb P) I 1014) 3 (g / 30) (nI (g % 30 + 1))) := by simp [sp_gd, c]
        have h10 : ¬ (1 : Int32) = 0 := by decide
        rw [← hgd] at r1
        have f2 := q3.tr r2
        have e4' := e4.tr f2.cf
        have hx : ∀ L, zfr 1847 (a + 11) J L → L 1859 = J 1859 := fun L hL' => hL' 1859 (by omega) (by omega)
        cases hv : sp_gd P Sp (zcv (pnf P) (pnb P) I 1014) g with
        | false =>
          rw [hv] at r1
          have hg1 : sp_gl P Sp (zcv (pnf P) (pnb P) I 1014) (g + 1) = sp_gl P Sp (zcv (pnf P) (pnb P) I 1014) g := by unfold sp_gl; rw [zgl, hv]; rfl
          refine Or.inl ⟨(nI (sp_gl P Sp (zcv (pnf P) (pnb P) I 1014) g).length, nI (g + 1), J2), ?_, by rw [hg1], rfl, e4', ?_⟩
          · dsimp only
            simp only [F_X1_look_L13, ↓zka_eq k0, hgs J e4, ↓reduceIte, zg_true, zb1_e, zb2_e, zb3_e, zsum, zlet_e, nI_1, nI_ge hg (show pnb P * 30 < 2 ^ 31 by omega), q1, h10, r1, q_b, Bool.false_eq_true, not_true_eq_false]
          · rw [hg1]; dsimp only; rw [hx _ f2]; exact e5
        | true =>
          rw [hv] at r1
          have hg1 : sp_gl P Sp (zcv (pnf P) (pnb P) I 1014) (g + 1) = sp_gl P Sp (zcv (pnf P) (pnb P) I 1014) g ++ [g] := by unfold sp_gl; rw [zgl, hv]; rfl
          have hJ2 := h0.cf e4'
          have en2 := e4'.now h0
          rcases F_isGuess_fr hJ2 hp (by rw [en2]; exact hi) hg with ⟨c', -⟩ | ⟨-, J3, p1, p2, p3⟩
          · rw [en2] at c'; exact absurd c' c
          rw [en2] at p2
          obtain ⟨J4, w1, w2, w3⟩ := F_goesBy_fr (hJ2.cf p3.cf) hp (by rw [p2]; exact hsv) (n := 5) (by decide)
          rw [p2] at w2
          have f4' := (f2.tr p3).tr w3
          have e6 : (6 : Int32) * nI (sp_gl P Sp (zcv (pnf P) (pnb P) I 1014) g).length = nI (6 * (sp_gl P Sp (zcv (pnf P) (pnb P) I 1014) g).length) := nI_mul (a := 6) (by omega) (by decide) (by omega)
          obtain ⟨t6, tk, ⟨-, -, -, -, -, -, tf6, -⟩, -, -, -, -, -, -, tk7, -⟩ := hT
          have hcp : zcpok 0 (nI (6 * (sp_gl P Sp (zcv (pnf P) (pnb P) I 1014) g).length)) 6 6 1080 = true := by
            simp only [zcpok, nI_c (show 6 * (sp_gl P Sp (zcv (pnf P) (pnb P) I 1014) g).length < 2147483648 by omega), Bool.and_eq_true, Bool.not_eq_true', decide_eq_false_iff_not, decide_eq_true_eq]
            refine ⟨⟨⟨⟨by decide, nI_pos (by omega)⟩, by decide⟩, by decide⟩, ?_⟩
            show _ + 6 ≤ 1080
            omega
          refine Or.inl ⟨(nI ((sp_gl P Sp (zcv (pnf P) (pnb P) I 1014) g).length + 1), nI (g + 1), zcpy J4 1854 0 1859 (6 * (sp_gl P Sp (zcv (pnf P) (pnb P) I 1014) g).length) 6), ?_, by rw [hg1, List.length_append]; rfl, rfl, ?_, ?_⟩
          · dsimp only
            simp only [F_X1_look_L13, ↓zka_eq k0, hgs J e4, ↓reduceIte, zg_true, zb1_e, zb2_e, zb3_e, zsum, zlet_e, nI_1, nI_ge hg (show pnb P * 30 < 2 ^ 31 by omega), q1, h10, r1, q_b, not_false_eq_true, p1]
            rw [show (5 : Int32) = nI 5 from rfl, w1]
            simp only [↓reduceIte, zg_true, zb1_e, zb2_e, zb3_e, zsum, zlet_e, nI_1, d1000, d1847, f4, ↓zka_eq tk, tf6, f10, ↓zka_eq tk7, ↓zka_eq ks, decide_eq_true (show 600 ≤ 1847 + 7 by decide), decide_eq_true (show 600 ≤ 1859 by decide), e6, hcp, nI_c (show 6 * (sp_gl P Sp (zcv (pnf P) (pnb P) I 1014) g).length < 2147483648 by omega)]
          · refine (e4.tr f4'.cf).tr fun x k hx => ?_
            unfold zcpy
            dsimp only
            rw [if_neg]
            rintro ⟨rfl, -⟩
            simp [zcsc] at hx
          · rw [hg1]
            dsimp only
            have hle : ∀ b, zcpy J4 1854 0 1859 (6 * (sp_gl P Sp (zcv (pnf P) (pnb P) I 1014) g).length) 6 1859 b = if 6 * (sp_gl P Sp (zcv (pnf P) (pnb P) I 1014) g).length ≤ b ∧ b < 6 * (sp_gl P Sp (zcv (pnf P) (pnb P) I 1014) g).length + 6 then J4 1854 (b - 6 * (sp_gl P Sp (zcv (pnf P) (pnb P) I 1014) g).length) else J4 1859 b := fun b => by
              unfold zcpy
              simp
            refine zrw_app e5 (fun j hj => ?_) (fun q hq => ?_) hnb
            · rw [hle, if_neg (by omega), hx _ f4']
            · rw [hle, if_pos (by omega), show 6 * (sp_gl P Sp (zcv (pnf P) (pnb P) I 1014) g).length + q - 6 * (sp_gl P Sp (zcv (pnf P) (pnb P) I 1014) g).length = q by omega]
              unfold sp_R
              rw [← w2]
              exact (zcv6 hq).symm
    · rintro ⟨t1, _, J⟩ ⟨e1, rfl, e4, e5⟩
      refine ⟨(t1, J), ?_, e1, e4, e5⟩
      dsimp only
      simp only [F_X1_look_L13, ↓zka_eq k0, hgs J e4, zb1_e, ↓reduceIte, nI_le (Nat.le_refl (pnb P * 30)) (show pnb P * 30 < 2 ^ 31 by omega)]
  · rw [q_in_no hw2]
    refine ⟨I, ?_, zcf.rf⟩
    have ew : F_X1_within K F w 0 1 I = some 0 := by rw [F_within_ok]; exact congrArg some hw
    simp only [F_X1_look, ↓reduceIte, zg_true, zb1_e, zb2_e, zb3_e, zsum, zlet_e, nI_1, ew, F_there_0, qC]
end L27
