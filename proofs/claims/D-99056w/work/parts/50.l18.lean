/-! L18: empty, lastBlack, resting, forEver, blackest: the component -/
/-- the first place from k on, of m, with p -/
def zfi (p : Nat → Bool) : Nat → Nat → Int32
  | 0, _ => -1
  | m + 1, k => if p k = true then nI k else zfi p m (k + 1)
theorem zfi_to (p : Nat → Bool) : ∀ k m, (∀ j, j < k → p j = false) → k ≤ m → zfi p m 0 = zfi p (m - k) k := by
  have key : ∀ k s m, (∀ j, s ≤ j → j < s + k → p j = false) → k ≤ m → zfi p m s = zfi p (m - k) (s + k) := by
    intro k
    induction k with
    | zero => intro s m _ _; rfl
    | succ k ih =>
      intro s m h hm
      obtain ⟨m, rfl⟩ : ∃ q, m = q + 1 := ⟨m - 1, by omega⟩
      rw [zfi, h s (Nat.le_refl _) (by omega), if_neg (by decide), ih (s + 1) m (fun j h1 h2 => h j (by omega) (by omega)) (by omega)]
      congr 1 <;> omega
  intro k m h hm
  have := key k 0 m (fun j _ hj => h j (by omega)) hm
  rw [Nat.zero_add] at this
  exact this
theorem zfi_at {p : Nat → Bool} {k m : Nat} (h : ∀ j, j < k → p j = false) (hk : p k = true) (hm : k < m) : zfi p m 0 = nI k := by
  rw [zfi_to p k m h (by omega), show m - k = (m - k - 1) + 1 by omega, zfi, if_pos hk]
theorem zfi_no {p : Nat → Bool} {m : Nat} (h : ∀ j, j < m → p j = false) : zfi p m 0 = -1 := by
  rw [zfi_to p m m h (Nat.le_refl _), Nat.sub_self, zfi]
def zdn (p : Nat → Bool) : Nat → Nat
  | 0 => 0
  | n + 1 => if p (n + 1) = true then n + 1 else zdn p n
theorem zloop_dn {body : Int32 → Option (Int32 ⊕ Int32)} (p : Nat → Bool) : ∀ n, (∀ k, k ≤ n → p k = true → body (nI k) = some (.inr (nI k))) → (∀ k, k + 1 ≤ n → p (k + 1) = false → body (nI (k + 1)) = some (.inl (nI k))) → p 0 = true → zloop body (nI n) = some (nI (zdn p n))
  | 0, h1, _, h0 => zloop_end (h1 0 (Nat.le_refl _) h0)
  | n + 1, h1, h2, h0 => by
    rw [zdn]
    cases hp : p (n + 1) with
    | true => rw [if_pos rfl]; exact zloop_end (h1 (n + 1) (Nat.le_refl _) hp)
    | false =>
      rw [if_neg (by decide), zloop_step (h2 n (Nat.le_refl _) hp)]
      exact zloop_dn p n (fun k hk => h1 k (by omega)) (fun k hk => h2 k (by omega)) h0
theorem zdn_to {p : Nat → Bool} {s : Nat} : ∀ n, s ≤ n → (∀ k, s < k → k ≤ n → p k = false) → zdn p n = zdn p s
  | 0, h, _ => by rw [show s = 0 by omega]
  | n + 1, h, hp => by
    by_cases e : s = n + 1
    · rw [e]
    · rw [zdn, hp (n + 1) (by omega) (Nat.le_refl _), if_neg (by decide)]
      exact zdn_to n (by omega) fun k h1 h2 => hp k h1 (by omega)
def sp_lbs (P : zP) (S : zS) : Nat → Int32 × Int32
  | 0 => (-1, -1)
  | n + 1 => if sp_lb P (sp_it P S n) = -1 then sp_lbs P S n else (nI (n + 1), sp_lb P (sp_it P S n))
def sp_gi (P : zP) (f : Nat) (m : Int32) : Nat → Int32
  | 0 => m
  | n + 1 => sp_grn P f (sp_gi P f m n)
def sp_br (P : zP) (f : Nat) (t : Int32) : Nat → Int32 → Int32
  | 0, _ => 1
  | n + 1, m => if t ≤ m then sp_br P f t n (sp_grn P f (m - t)) else 0
/-- of positive values the greatest, the first of them -/
def zbp (v : Nat → Int32) (lo n : Nat) (b : Int32) : Prop := (b = -1 ∧ ∀ i, lo ≤ i → i < n → v i = 0) ∨ ∃ j, lo ≤ j ∧ j < n ∧ b = nI j ∧ ¬ v j = 0 ∧ (∀ i, lo ≤ i → i < n → (v i).toInt ≤ (v j).toInt) ∧ ∀ i, lo ≤ i → i < j → (v i).toInt < (v j).toInt
theorem zbp_u {v : Nat → Int32} {lo n : Nat} {b b' : Int32} (h1 : zbp v lo n b) (h2 : zbp v lo n b') : b = b' := by
  rcases h1 with ⟨rfl, h1⟩ | ⟨j, a1, a2, rfl, a3, a4, a5⟩
  · rcases h2 with ⟨rfl, h2⟩ | ⟨j, b1, b2, rfl, b3, b4, b5⟩
    · rfl
    · exact absurd (h1 j b1 b2) b3
  · rcases h2 with ⟨rfl, h2⟩ | ⟨k, b1, b2, rfl, b3, b4, b5⟩
    · exact absurd (h2 j a1 a2) a3
    · rcases Nat.lt_trichotomy j k with c | c | c
      · have := b5 j a1 c; have := a4 k b1 b2; omega
      · rw [c]
      · have := a5 k b1 c; have := b4 j a1 a2; omega
theorem zbst_bp {v : Nat → Int32} : ∀ n, n < 1000 → (∀ i, i < n → 0 ≤ (v i).toInt) → zbp v 0 n (zbst v n).1 ∧ (∀ i, i < n → (v i).toInt ≤ ((zbst v n).2).toInt) ∧ ((zbst v n).1 = -1 → (zbst v n).2 = 0) ∧ (∀ j, j < n → (zbst v n).1 = nI j → (zbst v n).2 = v j) ∧ 0 ≤ ((zbst v n).2).toInt
  | 0, _, _ => ⟨Or.inl ⟨rfl, fun i _ h => by omega⟩, fun i h => by omega, fun _ => rfl, fun j h => by omega, Int.le_refl 0⟩
  | n + 1, hn, h => by
    obtain ⟨i1, i2, i3, i4, i5⟩ := zbst_bp n (by omega) fun i hi => h i (by omega)
    have hvn := h n (by omega)
    rw [zbst]
    by_cases c : v n ≤ (zbst v n).2
    · rw [if_pos c]
      have c' := iLe.mp c
      refine ⟨?_, fun i hi => ?_, i3, fun j hj e => ?_, i5⟩
      · rcases i1 with ⟨e, z⟩ | ⟨j, a1, a2, e, a3, a4, a5⟩
        · refine Or.inl ⟨e, fun i _ hi => ?_⟩
          by_cases e2 : i = n
          · subst e2
            rw [i3 e, i_0] at c'
            exact i_ext (by rw [i_0]; omega)
          · exact z i (by omega) (by omega)
        · refine Or.inr ⟨j, a1, by omega, e, a3, fun i _ hi => ?_, a5⟩
          by_cases e2 : i = n
          · subst e2
            rw [i4 j a2 e] at c'
            exact c'
          · exact a4 i (by omega) (by omega)
      · by_cases e2 : i = n
        · subst e2; exact c'
        · exact i2 i (by omega)
      · by_cases e2 : j = n
        · subst e2
          exfalso
          rcases i1 with ⟨e3, z⟩ | ⟨k, a1, a2, e3, -⟩
          · rw [e3] at e
            exact nI_m1 (by omega) e.symm
          · rw [e3] at e
            have := (nI_eq (by omega) (by omega)).mp e
            omega
        · exact i4 j (by omega) e
    · rw [if_neg c]
      have c' := mt iLe.mpr c
      dsimp only
      refine ⟨Or.inr ⟨n, Nat.zero_le _, by omega, rfl, fun e => ?_, fun i _ hi => ?_, fun i _ hi => ?_⟩, fun i hi => ?_, fun e => absurd e (nI_m1 (by omega)), fun j hj e => ?_, hvn⟩
      · rw [e, i_0] at c'; omega
      · by_cases e2 : i = n
        · rw [e2]; exact Int.le_refl _
        · have := i2 i (by omega); omega
      · have := i2 i hi; omega
      · by_cases e2 : i = n
        · rw [e2]; exact Int.le_refl _
        · have := i2 i (by omega); omega
      · rw [(nI_eq (by omega) (by omega)).mp e]
/-- a question's answer about one that sp_gi goes on -/
def q_empty (P : zP) (S : zS) (x : Int32) : Int32 ⊕ Nat := q_fa (pnf P) x fun f => .inl (zfi (fun k => decide (sp_it P S k 0 f = 0)) 51 0)
def q_last (P : zP) (S : zS) (w : Int32) : Int32 ⊕ Nat := q_in w 1 1 fun w => .inl (if w = 0 then (sp_lbs P S 50).1 else (sp_lbs P S 50).2)
def q_resting (P : zP) (S : zS) (x v : Int32) : Int32 ⊕ Nat := q_fa (pnf P) x fun f => q_in v 999 2 fun v => .inl (zfi (fun k => decide (¬ sp_gi P f (S 0 f) k < nI v)) 51 0)
def q_ever (P : zP) (S : zS) (x : Int32) : Int32 ⊕ Nat := q_fa (pnf P) x fun f => .inl (nI (zdn (fun t => decide (sp_br P f (nI t) 30 (S 0 f) = 1)) 999))
section L18
variable {K : zKd} {F : zFd} {I : zId} {a N : Nat} {P : zP} {X : zXd}
theorem F_empty_ok (h : zCQ K F I a N P X) (hp : pInv P) (hi : sInv P (zcv (pnf P) (pnb P) I 1014)) (x : Int32) : ∃ J, F_X1_empty K F 1000 x I = some (qC (q_empty P (zcv (pnf P) (pnb P) I 1014) x), J) ∧ zcf a I J := by
  have hnf := hp.1
  obtain ⟨h1, h2⟩ := F_tl_ok h
  have e0 : zcv (pnf P) (pnb P) (zlk I 1847 1014) 1847 = zcv (pnf P) (pnb P) I 1014 := zlk_cv hp.1 hp.2.1 (by decide)
  have h0 := h
  obtain ⟨k0, ⟨f0, -, -, f3, f4, -⟩, -, ⟨hN, hT⟩, -⟩ := h
  unfold q_empty
  rcases zir_cases x (n := pnf P) (by omega) with ⟨f, hf, rfl⟩ | hx
  · rw [q_fa_ok hf (by omega)]
    obtain ⟨o, ho, -⟩ := F_forestAt_ok h0 hp hf
    generalize hS : zcv (pnf P) (pnb P) I 1014 = S at *
    have s := zloop_up (body := fun s : Int32 × zId => F_X1_empty_L19 K F 1000 (nI f) s.1 s.2) (fun k s => s.1 = nI k ∧ zcv (pnf P) (pnb P) s.2 1847 = sp_it P S k ∧ zcf a I s.2 ∧ ∀ j, j < k → decide (sp_it P S j 0 f = 0) = false) (fun t => match t with | .inl J => zcf a I J ∧ zfi (fun k => decide (sp_it P S k 0 f = 0)) 51 0 = -1 | .inr (r, J) => zcf a I J ∧ r = .inl (zfi (fun k => decide (sp_it P S k 0 f = 0)) 51 0)) 51 ?_ ?_ 0 (0, zlk I 1847 1014) (Nat.zero_le _) ⟨rfl, e0, h2, fun j hj => by omega⟩
    · obtain ⟨t, s1, s2⟩ := s
      cases t with
      | inl J =>
        refine ⟨J, ?_, s2.1⟩
        simp only [F_X1_empty, ↓zka_eq k0, ho, zb2_e, zsum, zb1_e, decide_eq_true (show 600 ≤ 1000 by decide), zg_true, f3, f4, ↓zka_eq hT.2.1, h1, s1, zs1, qC, s2.2]
      | inr z =>
        obtain ⟨r, J⟩ := z
        refine ⟨J, ?_, s2.1⟩
        simp only [F_X1_empty, ↓zka_eq k0, ho, zb2_e, zsum, zb1_e, decide_eq_true (show 600 ≤ 1000 by decide), zg_true, f3, f4, ↓zka_eq hT.2.1, h1, s1, zs1, qC, s2.2]
    · rintro i ⟨_, J⟩ hi51 ⟨rfl, e1, e2, e3⟩
      dsimp only at e1 e2
      have hr : J 1848 f = sp_it P S i 0 f := by rw [← e1]; exact (zcv0 hf).symm
      by_cases c : sp_it P S i 0 f = 0
      · refine Or.inr ⟨.inr (.inl (nI i), J), ?_, e2, ?_⟩
        · dsimp only
          simp only [F_X1_empty_L19, if_neg (show ¬ (50 : Int32) < nI i from nI_nlt (a := 50) (by omega) (by decide)), ↓zka_eq k0, decide_eq_true (show 600 ≤ 1000 by decide), zg_true, f4, zb1_e, ↓zka_eq hT.2.1, decide_eq_true (show 600 ≤ 1847 by decide), hT.2.2.1.1, ↓zka_eq hT.2.2.2.1, zin_n (show f < 8 by omega), nI_c (show f < 2147483648 by omega), hr, c, not_true_eq_false, if_false]
        · rw [zfi_at e3 (decide_eq_true c) hi51]
      · obtain ⟨J1, g1, g2, -, g4⟩ := F_goT_ok (h0.cf e2) hp (by rw [e1]; exact sInv_it hp hi i)
        refine Or.inl ⟨(nI (i + 1), J1), ?_, rfl, ?_, e2.tr g4, fun j hj => ?_⟩
        · dsimp only
          simp only [F_X1_empty_L19, if_neg (show ¬ (50 : Int32) < nI i from nI_nlt (a := 50) (by omega) (by decide)), ↓zka_eq k0, decide_eq_true (show 600 ≤ 1000 by decide), zg_true, f0, f4, zb1_e, ↓zka_eq hT.2.1, decide_eq_true (show 600 ≤ 1847 by decide), hT.2.2.1.1, ↓zka_eq hT.2.2.2.1, zin_n (show f < 8 by omega), nI_c (show f < 2147483648 by omega), hr, c, not_false_eq_true, if_true, g1, zlet_e, nI_1]
        · dsimp only
          rw [g2, e1, sp_it]
        · by_cases e : j = i
          · rw [e]; exact decide_eq_false c
          · exact e3 j (by omega)
    · rintro ⟨_, J⟩ ⟨rfl, e1, e2, e3⟩
      exact ⟨.inl J, rfl, e2, zfi_no e3⟩
  · rw [q_fa_no hx]
    refine ⟨I, ?_, zcf.rf⟩
    simp only [F_X1_empty, ↓zka_eq k0, F_forestAt_no h0 hx, zb2_e, zsum, qC]
    rfl
theorem F_last_ok (h : zCQ K F I a N P X) (hp : pInv P) (hi : sInv P (zcv (pnf P) (pnb P) I 1014)) (w : Int32) : ∃ J, F_X1_lastBlack K F 1000 w I = some (qC (q_last P (zcv (pnf P) (pnb P) I 1014) w), J) ∧ zcf a I J := by
  obtain ⟨h1, h2⟩ := F_tl_ok h
  have e0 : zcv (pnf P) (pnb P) (zlk I 1847 1014) 1847 = zcv (pnf P) (pnb P) I 1014 := zlk_cv hp.1 hp.2.1 (by decide)
  have h0 := h
  obtain ⟨k0, ⟨f0, -, -, f3, f4, -⟩, -, ⟨hN, hT⟩, -⟩ := h
  unfold q_last
  generalize hS : zcv (pnf P) (pnb P) I 1014 = S at *
  rcases zib_cases w 1 (by decide) with ⟨w, hw, rfl⟩ | ⟨hw, hw2⟩
  · rw [q_in_ok hw (by decide)]
    have ew : F_X1_within K F (nI w) 0 1 I = some 1 := by rw [F_within_ok]; exact congrArg some (zib_nI hw (by decide))
    have s := zloop_up (body := fun s : Int32 × Int32 × Int32 × zId => F_X1_lastBlack_L27 K F 1000 s.1 s.2.1 s.2.2.1 s.2.2.2) (fun k s => (s.1, s.2.1) = sp_lbs P S k ∧ s.2.2.1 = nI (k + 1) ∧ zcv (pnf P) (pnb P) s.2.2.2 1847 = sp_it P S k ∧ zcf a I s.2.2.2) (fun t => (t.1, t.2.1) = sp_lbs P S 50 ∧ zcf a I t.2.2) 50 ?_ ?_ 0 (-1, -1, 1, zlk I 1847 1014) (Nat.zero_le _) ⟨rfl, rfl, e0, h2⟩
    · obtain ⟨⟨t1, t2, J⟩, s1, s2, s3⟩ := s
      dsimp only at s2 s3
      refine ⟨J, ?_, s3⟩
      have hw0 : (nI w = 0) ↔ w = 0 := nI_eq (b := 0) (by omega) (by omega)
      simp only [F_X1_lastBlack, ↓zka_eq k0, zb2_e, zsum, zb1_e, ew, F_there_1, decide_eq_true (show 600 ≤ 1000 by decide), zg_true, f3, f4, ↓zka_eq hT.2.1, h1, s1, zn3, qC, hw0, ← s2]
      by_cases c : w = 0
      · rw [if_neg (fun h => h c), if_pos c]
      · rw [if_pos c, if_neg c]
    · rintro i ⟨t1, t2, _, J⟩ hi51 ⟨e1, rfl, e2, e3⟩
      dsimp only at e1 e2 e3
      obtain ⟨J1, g1, g2, g3, g4⟩ := F_goT_ok (h0.cf e3) hp (by rw [e2]; exact sInv_it hp hi i)
      rw [e2] at g2 g3
      by_cases c : sp_lb P (sp_it P S i) = -1
      · refine Or.inl ⟨(t1, t2, nI (i + 1 + 1), J1), ?_, ?_, rfl, g2, e3.tr g4⟩
        · dsimp only
          simp only [F_X1_lastBlack_L27, if_neg (show ¬ (50 : Int32) < nI (i + 1) from nI_nlt (a := 50) (by omega) (by decide)), ↓zka_eq k0, decide_eq_true (show 600 ≤ 1000 by decide), zg_true, f0, f4, zb1_e, ↓zka_eq hT.2.1, g1, decide_eq_true (show 600 ≤ 1847 by decide), g3, c, not_true_eq_false, if_false, zlet_e, nI_1]
        · rw [sp_lbs, if_pos c]
          exact e1
      · refine Or.inl ⟨(nI (i + 1), sp_lb P (sp_it P S i), nI (i + 1 + 1), J1), ?_, ?_, rfl, g2, e3.tr g4⟩
        · dsimp only
          simp only [F_X1_lastBlack_L27, if_neg (show ¬ (50 : Int32) < nI (i + 1) from nI_nlt (a := 50) (by omega) (by decide)), ↓zka_eq k0, decide_eq_true (show 600 ≤ 1000 by decide), zg_true, f0, f4, zb1_e, ↓zka_eq hT.2.1, g1, decide_eq_true (show 600 ≤ 1847 by decide), g3, c, not_false_eq_true, if_true, zlet_e, nI_1]
        · rw [sp_lbs, if_neg c]
    · rintro ⟨t1, t2, _, J⟩ ⟨e1, rfl, e2, e3⟩
      exact ⟨(t1, t2, J), rfl, e1, e3⟩
  · rw [q_in_no hw2]
    refine ⟨I, ?_, zcf.rf⟩
    have ew : F_X1_within K F w 0 1 I = some 0 := by rw [F_within_ok]; exact congrArg some hw
    simp only [F_X1_lastBlack, zb2_e, zsum, zb1_e, ew, F_there_0, qC]
    rfl
theorem F_resting_ok (h : zCQ K F I a N P X) (hp : pInv P) (x y : Int32) : F_X1_resting K F 1000 x y I = some (qC (q_resting P (zcv (pnf P) (pnb P) I 1014) x y), I) := by
  have hnf := hp.1
  have h0 := h
  obtain ⟨k0, ⟨f0, -, -, f3, f4, -⟩, -, ⟨hN, hT⟩, hL, -⟩ := h
  have l1 := hL.1
  unfold q_resting
  rcases zir_cases x (n := pnf P) (by omega) with ⟨f, hf, rfl⟩ | hx
  · rw [q_fa_ok hf (by omega)]
    obtain ⟨o, ho, ⟨o1, o2, o3⟩, ho4, ho5, ho6⟩ := F_forestAt_ok h0 hp hf
    rcases zib_cases y 999 (by decide) with ⟨n, hn, rfl⟩ | ⟨hy, hy2⟩
    · rw [q_in_ok hn (by decide)]
      have hw : F_X1_within K F (nI n) 0 999 I = some 1 := by rw [F_within_ok]; exact congrArg some (zib_nI hn (by decide))
      have hm : zcv (pnf P) (pnb P) I 1014 0 f = I 1015 f := zcv0 hf
      rw [hm]
      have s := zloop_up (body := fun s : Int32 × Int32 => F_X1_resting_L31 K F (nI n) o I s.1 s.2) (fun k s => s = (sp_gi P f (I 1015 f) k, nI k) ∧ ∀ j, j < k → decide (¬ sp_gi P f (I 1015 f) j < nI n) = false) (fun t => match t with | .inl _ => zfi (fun k => decide (¬ sp_gi P f (I 1015 f) k < nI n)) 51 0 = -1 | .inr z => z = (.inl (zfi (fun k => decide (¬ sp_gi P f (I 1015 f) k < nI n)) 51 0), I)) 51 ?_ ?_ 0 (I 1015 f, 0) (Nat.zero_le _) ⟨rfl, fun j hj => by omega⟩
      · obtain ⟨t, s1, s2⟩ := s
        cases t with
        | inl J =>
          simp only [F_X1_resting, ↓zka_eq k0, ho, zb2_e, zsum, zb1_e, hw, F_right_1, decide_eq_true (show 600 ≤ 1000 by decide), decide_eq_true (show 600 ≤ 1014 by decide), zg_true, f3, ↓zka_eq hN.2.1, hN.2.2.1.1, ↓zka_eq hN.2.2.2.1, zin_n (show f < 8 by omega), nI_c (show f < 2147483648 by omega), zlet_e, s1, zs1, qC]
          rw [s2]
        | inr z =>
          simp only [F_X1_resting, ↓zka_eq k0, ho, zb2_e, zsum, zb1_e, hw, F_right_1, decide_eq_true (show 600 ≤ 1000 by decide), decide_eq_true (show 600 ≤ 1014 by decide), zg_true, f3, ↓zka_eq hN.2.1, hN.2.2.1.1, ↓zka_eq hN.2.2.2.1, zin_n (show f < 8 by omega), nI_c (show f < 2147483648 by omega), zlet_e, s1, zs1, qC]
          rw [s2]
      · rintro i s hi51 ⟨rfl, e3⟩
        by_cases c : sp_gi P f (I 1015 f) i < nI n
        · refine Or.inl ⟨(sp_gi P f (I 1015 f) (i + 1), nI (i + 1)), ?_, rfl, fun j hj => ?_⟩
          · dsimp only
            simp only [F_X1_resting_L31, if_neg (show ¬ (50 : Int32) < nI i from nI_nlt (a := 50) (by omega) (by decide)), if_pos c, ↓zka_eq ho4, F_X10_grown, decide_eq_true (show 600 ≤ o by omega), zg_true, zb1_e, ho5, ho6, zlet_e, nI_1, sp_gi, sp_grn]
          · by_cases e : j = i
            · rw [e]; simp [c]
            · exact e3 j (by omega)
        · refine Or.inr ⟨.inr (.inl (nI i), I), ?_, ?_⟩
          · dsimp only
            simp only [F_X1_resting_L31, if_neg (show ¬ (50 : Int32) < nI i from nI_nlt (a := 50) (by omega) (by decide)), if_neg c]
          · rw [zfi_at e3 (decide_eq_true c) hi51]
      · rintro s ⟨rfl, e3⟩
        exact ⟨.inl (), rfl, zfi_no e3⟩
    · rw [q_in_no hy2]
      have hw : F_X1_within K F y 0 999 I = some 0 := by rw [F_within_ok]; exact congrArg some hy
      simp only [F_X1_resting, ↓zka_eq k0, ho, zb2_e, zsum, zb1_e, hw, F_right_0, qC]
      rfl
  · rw [q_fa_no hx]
    simp only [F_X1_resting, ↓zka_eq k0, F_forestAt_no h0 hx, zb2_e, zsum, qC]
    rfl
end L18
