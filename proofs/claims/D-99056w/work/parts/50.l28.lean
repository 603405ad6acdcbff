/-! L28: look: the model -/
def zrn (P : zP) (S : zS) (T : Nat → Int32) (l : List Nat) (n : Nat) : Prop := ∀ i q, i < n → q < pnb P → T (6 * i + q) = sp_R P S (l.getD i 0) q
section L28
variable {I : zId} {P : zP} {X : zXd} {Sp : zSpd}
theorem F7_unlike_ok (hnb : pnb P ≤ 6) {S : zS} {l : List Nat} (hl : l.length ≤ 180) (h52 : I 1860 52 = nI l.length) (hr : zrn P S (I 1895) l l.length) {q : Nat} (hq : q < pnb P) : F_X7_unlike (nI q) I = some (sp_un P S l q) := by
  have s := zloop_up (body := fun s : Int32 × Int32 => F_X7_unlike_L4 (nI q) I s.1 s.2) (fun i s => s = (zcn (fun i => zal (fun k => !(decide (sp_R P S (l.getD i 0) q = sp_R P S (l.getD k 0) q))) i) i, nI i)) (fun t => t = sp_un P S l q) l.length ?_ ?_ 0 (0, 0) (Nat.zero_le _) rfl
  · obtain ⟨t, s1, rfl⟩ := s
    simp only [F_X7_unlike, s1, zb1_e]
  · rintro i _ hil rfl
    have s := zloop_up (body := fun s : Int32 × Int32 => F_X7_unlike_L18 (nI q) I (nI i) s.1 s.2) (fun k s => s = (q_b (zal (fun k => !(decide (sp_R P S (l.getD i 0) q = sp_R P S (l.getD k 0) q))) k), nI k)) (fun t => t = q_b (zal (fun k => !(decide (sp_R P S (l.getD i 0) q = sp_R P S (l.getD k 0) q))) i)) i ?_ ?_ 0 (1, 0) (Nat.zero_le _) rfl
    · obtain ⟨t, s1, rfl⟩ := s
      refine Or.inl ⟨(zcn (fun i => zal (fun k => !(decide (sp_R P S (l.getD i 0) q = sp_R P S (l.getD k 0) q))) i) (i + 1), nI (i + 1)), ?_, rfl⟩
      dsimp only
      rw [zcn]
      cases hz : zal (fun k => !(decide (sp_R P S (l.getD i 0) q = sp_R P S (l.getD k 0) q))) i <;> simp only [F_X7_unlike_L4, h52, ↓reduceIte, zg_true, zb1_e, zb2_e, zb3_e, zsum, zlet_e, nI_1, nI_ge hil (show l.length < 2 ^ 31 by omega), s1, hz, q_b, Bool.false_eq_true, show ¬ (1 : Int32) = 0 by decide, Int32.add_zero]
    · rintro k _ hk rfl
      dsimp only
      have e6 : ∀ j, j < 180 → (6 : Int32) * nI j + nI q = nI (6 * j + q) := fun j hj => by rw [show (6 : Int32) * nI j = nI (6 * j) from nI_mul (a := 6) (by omega) (by decide) (by omega), nI_add]
      cases hz : zal (fun k => !(decide (sp_R P S (l.getD i 0) q = sp_R P S (l.getD k 0) q))) k with
      | false =>
        refine Or.inr ⟨q_b false, ?_, ?_⟩
        · simp only [F_X7_unlike_L18, ↓reduceIte, zg_true, zb1_e, zb2_e, zb3_e, zsum, zlet_e, nI_1, nI_ge hk (show i < 2 ^ 31 by omega), q_b, Bool.false_eq_true]
        · have : zal (fun k => !(decide (sp_R P S (l.getD i 0) q = sp_R P S (l.getD k 0) q))) i = false := by
            have key : ∀ n, zal (fun k => !(decide (sp_R P S (l.getD i 0) q = sp_R P S (l.getD k 0) q))) (k + n) = false := by
              intro n
              induction n with
              | zero => exact hz
              | succ n ih => rw [← Nat.add_assoc, zal, ih]; rfl
            have := key (i - k)
            rwa [show k + (i - k) = i by omega] at this
          rw [this]
      | true =>
        have ri := hr i q (by omega) hq
        have rk := hr k q (by omega) hq
        by_cases c : sp_R P S (l.getD i 0) q = sp_R P S (l.getD k 0) q
        · refine Or.inl ⟨(q_b (zal (fun k => !(decide (sp_R P S (l.getD i 0) q = sp_R P S (l.getD k 0) q))) (k + 1)), nI (k + 1)), ?_, rfl⟩
          rw [zal, hz, decide_eq_true c]
          simp only [F_X7_unlike_L18, ↓reduceIte, zg_true, zb1_e, zb2_e, zb3_e, zsum, zlet_e, nI_1, nI_ge hk (show i < 2 ^ 31 by omega), q_b, show ¬ (1 : Int32) = 0 by decide, e6 i (by omega), e6 k (by omega), zin_n (show 6 * i + q < 1080 by omega), zin_n (show 6 * k + q < 1080 by omega), nI_c (show 6 * i + q < 2147483648 by omega), nI_c (show 6 * k + q < 2147483648 by omega), ri, rk, c, Bool.not_true, Bool.and_false, Bool.false_eq_true]
        · refine Or.inl ⟨(q_b (zal (fun k => !(decide (sp_R P S (l.getD i 0) q = sp_R P S (l.getD k 0) q))) (k + 1)), nI (k + 1)), ?_, rfl⟩
          rw [zal, hz, decide_eq_false c]
          simp only [F_X7_unlike_L18, ↓reduceIte, zg_true, zb1_e, zb2_e, zb3_e, zsum, zlet_e, nI_1, nI_ge hk (show i < 2 ^ 31 by omega), q_b, show ¬ (1 : Int32) = 0 by decide, e6 i (by omega), e6 k (by omega), zin_n (show 6 * i + q < 1080 by omega), zin_n (show 6 * k + q < 1080 by omega), nI_c (show 6 * i + q < 2147483648 by omega), nI_c (show 6 * k + q < 2147483648 by omega), ri, rk, Bool.not_false, Bool.and_self]
          rw [if_neg (fun h => c h.symm)]
    · rintro _ rfl
      dsimp only
      simp only [F_X7_unlike_L18, ↓reduceIte, nI_le (Nat.le_refl (i)) (show i < 2 ^ 31 by omega)]
      exact ⟨_, rfl, rfl⟩
  · rintro _ rfl
    dsimp only
    simp only [F_X7_unlike_L4, h52, ↓reduceIte, nI_le (Nat.le_refl (l.length)) (show l.length < 2 ^ 31 by omega)]
    exact ⟨_, rfl, rfl⟩
theorem F7_row_ok {i : Nat} (hi : i < 180) {J : zId} : ∃ L, zloop (fun s : Int32 × zId => F_X7_look_L84 (nI i) s.1 s.2) (0, J) = some L ∧ (∀ x, x ≠ 1895 → L x = J x) ∧ (∀ q, q < 6 → L 1895 (6 * i + q) = J 1880 q) ∧ ∀ k, k < 6 * i → L 1895 k = J 1895 k := by
  refine zloop_up (body := fun s : Int32 × zId => F_X7_look_L84 (nI i) s.1 s.2) (fun n s => s.1 = nI n ∧ (∀ x, x ≠ 1895 → s.2 x = J x) ∧ (∀ q, q < n → s.2 1895 (6 * i + q) = J 1880 q) ∧ ∀ k, k < 6 * i → s.2 1895 k = J 1895 k) (fun L => (∀ x, x ≠ 1895 → L x = J x) ∧ (∀ q, q < 6 → L 1895 (6 * i + q) = J 1880 q) ∧ ∀ k, k < 6 * i → L 1895 k = J 1895 k) 6 ?_ ?_ 0 (0, J) (Nat.zero_le _) ⟨rfl, fun _ _ => rfl, fun q hq => absurd hq (Nat.not_lt_zero q), fun _ _ => rfl⟩
  · rintro n ⟨_, L⟩ hn ⟨rfl, e1, e2, e3⟩
    dsimp only at e1 e2 e3
    have e6 : (6 : Int32) * nI i + nI n = nI (6 * i + n) := by rw [show (6 : Int32) * nI i = nI (6 * i) from nI_mul (a := 6) (by omega) (by decide) (by omega), nI_add]
    refine Or.inl ⟨(nI (n + 1), zu L 1895 (6 * i + n) (J 1880 n)), ?_, rfl, fun x hx => ?_, fun q hq => ?_, fun k hk => ?_⟩
    · dsimp only
      simp only [F_X7_look_L84, ↓reduceIte, zg_true, zb1_e, zb2_e, zb3_e, zsum, zlet_e, nI_1, show ¬ (6 : Int32) ≤ nI n from nI_ge hn (by decide), zin_n (show n < 6 by omega), nI_c (show n < 2147483648 by omega), e6, zin_n (show 6 * i + n < 1080 by omega), nI_c (show 6 * i + n < 2147483648 by omega), e1 1880 (by decide)]
    · dsimp only; rw [zu_row hx]; exact e1 x hx
    · dsimp only
      by_cases e : q = n
      · rw [e, zu_same]
      · rw [zu_off (by omega)]; exact e2 q (by omega)
    · dsimp only; rw [zu_off (by omega)]; exact e3 k hk
  · rintro ⟨_, L⟩ ⟨rfl, e1, e2, e3⟩
    exact ⟨L, rfl, e1, e2, e3⟩
theorem F7_look_ok (hQ : zMQ I P X) (hp : pInv P) (hi : sInv P (zmv2 (pnf P) (pnb P) I)) (hs : zMSp I Sp) (hsi : spInv P Sp) (w : Int32) : ∃ J, F_X7_look w I = some (qV (q_look P Sp (zmv2 (pnf P) (pnb P) I) w), J) ∧ J 1860 1 = qE (q_look P Sp (zmv2 (pnf P) (pnb P) I) w) ∧ zmv2 (pnf P) (pnb P) J = zmv2 (pnf P) (pnb P) I ∧ zmf I J := by
  have hc := zmf_c1 (I := I) (v := 0)
  have hQ1 := hQ.mf hc
  have em : zmv2 (pnf P) (pnb P) (zu I 1860 1 0) = zmv2 (pnf P) (pnb P) I := zmv2_c1
  have hnf := hp.1
  have hnb := hp.2.1
  have hs1 := hs.mf hc
  unfold q_look
  rcases zib_cases w 1 (by decide) with ⟨w, hw, rfl⟩ | ⟨hw, hw2⟩
  · rw [q_in_ok hw (by decide)]
    have c0 : ¬ nI w < 0 := nI_pos (by omega)
    have c1 : nI w ≤ 1 := nI_le hw (by decide)
    have hw0 : (nI w = 0) ↔ w = 0 := nI_eq (b := 0) (by omega) (by omega)
    obtain ⟨Jf, t1, t2, t3, t4, t5, t6⟩ := F7_tell_ok hQ1 hp (by rw [em]; exact hi) hs1 hsi
    rw [em] at t2 t3
    have hl : (sp_gl P Sp (zmv2 (pnf P) (pnb P) I) (pnb P * 30)).length ≤ pnb P * 30 := zgl_len _ _
    have hlm := zgl_lt (sp_gd P Sp (zmv2 (pnf P) (pnb P) I)) (pnb P * 30)
    have hQf := hQ1.mf t4
    obtain ⟨I1, g1, g2, g3, g4, g5, g6⟩ := F7_ahead_ok hQf hp (by rw [t3]; exact hi)
    rw [t3] at g3
    have hlm' : ∀ g ∈ sp_gl P Sp (zmv2 (pnf P) (pnb P) I) (pnb P * 30), g < pnb P * 30 := fun g hg => (hlm g hg).1
    generalize sp_gl P Sp (zmv2 (pnf P) (pnb P) I) (pnb P * 30) = l at *
    have hft : zft I1 l := ⟨by rw [g6]; exact t2.1, fun i h => by rw [g2.row (show 1894 ≠ 1886 by decide)]; exact t2.2 i h⟩
    have hbow : ∀ J, zmv2 (pnf P) (pnb P) J = (zmv2 (pnf P) (pnb P) I) → ∀ j, j < pnb P → J 1868 j = Jf 1868 j := fun J e j hj => by
      have e1 : zmv2 (pnf P) (pnb P) J 3 j = zmv2 (pnf P) (pnb P) Jf 3 j := by rw [e, t3]
      rw [zmv23 hj, zmv23 hj] at e1
      exact e1
    have s := zloop_up (body := fun s : Int32 × zId => F_X7_look_L35 s.1 s.2) (fun i s => s.1 = nI i ∧ zmv2 (pnf P) (pnb P) s.2 = (zmv2 (pnf P) (pnb P) I) ∧ zmf Jf s.2 ∧ s.2 1860 1 = Jf 1860 1 ∧ s.2 1886 = I1 1886 ∧ zft s.2 l ∧ zrn P (zmv2 (pnf P) (pnb P) I) (s.2 1895) l i) (fun t => zmv2 (pnf P) (pnb P) t = (zmv2 (pnf P) (pnb P) I) ∧ zmf Jf t ∧ t 1860 1 = Jf 1860 1 ∧ t 1860 52 = nI l.length ∧ zrn P (zmv2 (pnf P) (pnb P) I) (t 1895) l l.length) l.length ?_ ?_ 0 (0, I1) (Nat.zero_le _) ⟨rfl, g3, g4, by dsimp only; rw [g6], rfl, hft, fun i q h => absurd h (Nat.not_lt_zero i)⟩
    · obtain ⟨J, s1, s2, s3, s4, s5, s6⟩ := s
      have hQJ := hQf.mf s3
      refine ⟨J, ?_, by rw [s4, t5, zu_same]; rfl, s2, (hc.tr t4).tr s3⟩
      have u := fun q hq => F7_unlike_ok hnb (by omega) s5 s6 (q := q) hq
      have s := zloop_up (body := fun s : Int32 × Int32 × Int32 => F_X7_look_L146 J s.1 s.2.1 s.2.2) (fun i s => s = ((zbst (sp_un P (zmv2 (pnf P) (pnb P) I) l) i).1, (zbst (sp_un P (zmv2 (pnf P) (pnb P) I) l) i).2, nI i)) (fun t => t = zbst (sp_un P (zmv2 (pnf P) (pnb P) I) l) (pnb P)) (pnb P) ?_ ?_ 0 (-1, 0, 0) (Nat.zero_le _) rfl
      · obtain ⟨t, v1, rfl⟩ := s
        simp only [F_X7_look, ↓reduceIte, zg_true, zb1_e, zb2_e, zb3_e, zsum, zlet_e, nI_1, c0, c1, t1, g1, s1, v1, zn2, hw0, qV]
        by_cases c : w = 0
        · rw [if_neg (fun h => h c), if_pos c]
        · rw [if_pos c, if_neg c]
      · rintro i _ hib rfl
        dsimp only
        refine Or.inl ⟨((zbst (sp_un P (zmv2 (pnf P) (pnb P) I) l) (i + 1)).1, (zbst (sp_un P (zmv2 (pnf P) (pnb P) I) l) (i + 1)).2, nI (i + 1)), ?_, rfl⟩
        rw [zbst]
        by_cases c : sp_un P (zmv2 (pnf P) (pnb P) I) l i ≤ (zbst (sp_un P (zmv2 (pnf P) (pnb P) I) l) i).2
        · have c' : ¬ (zbst (sp_un P (zmv2 (pnf P) (pnb P) I) l) i).2 < sp_un P (zmv2 (pnf P) (pnb P) I) l i := by rw [iL]; have := iLe.mp c; omega
          simp only [F_X7_look_L146, hQJ.1.2.1, ↓reduceIte, zg_true, zb1_e, zb2_e, zb3_e, zsum, zlet_e, nI_1, nI_ge hib (show pnb P < 2 ^ 31 by omega), u i hib, c, c']
        · have c' : (zbst (sp_un P (zmv2 (pnf P) (pnb P) I) l) i).2 < sp_un P (zmv2 (pnf P) (pnb P) I) l i := by rw [iL]; have := mt iLe.mpr c; omega
          simp only [F_X7_look_L146, hQJ.1.2.1, ↓reduceIte, zg_true, zb1_e, zb2_e, zb3_e, zsum, zlet_e, nI_1, nI_ge hib (show pnb P < 2 ^ 31 by omega), u i hib, c, c']
      · rintro _ rfl
        dsimp only
        simp only [F_X7_look_L146, hQJ.1.2.1, ↓reduceIte, nI_le (Nat.le_refl (pnb P)) (show pnb P < 2 ^ 31 by omega)]
        exact ⟨_, rfl, rfl⟩
    · rintro i ⟨_, J⟩ hil ⟨rfl, e1, e2, e3, e4, e5, e6⟩
      dsimp only at e1 e2 e3 e4 e5 e6
      have hgm := hlm' _ (List.getElem_mem hil)
      have hgd : l.getD i 0 = l[i] := by rw [List.getD_eq_getElem?_getD, List.getElem?_eq_getElem hil]; rfl
      have e5i := e5.2 i hil
      generalize l[i] = g at *
      have hb : g / 30 < pnb P := by omega
      have ed : zcd g / 100 = nI (g / 30) := by
        unfold zcd
        rw [show nI (g / 30 * 100 + g % 30 + 1) / 100 = nI ((g / 30 * 100 + g % 30 + 1) / 100) from nI_div (b := 100) (by omega) (by decide) (by decide)]
        congr 1
        omega
      have er : zcd g - nI (g / 30) * 100 = nI (g % 30 + 1) := by
        unfold zcd
        rw [show nI (g / 30) * 100 = nI (g / 30 * 100) from nI_mul (b := 100) (by omega) (by omega) (by decide), nI_sub (by omega) (by omega)]
        congr 1
        omega
      have hm1 : zmv2 (pnf P) (pnb P) (zu J 1868 (g / 30) (nI (g % 30 + 1))) = zu (zmv2 (pnf P) (pnb P) I) 3 (g / 30) (nI (g % 30 + 1)) := by rw [zmvu3 hb, e1]
      have hsv : sInv P (zu (zmv2 (pnf P) (pnb P) I) 3 (g / 30) (nI (g % 30 + 1))) := sInv_bow hi (rg_nI (n := 30) (by omega) (by decide))
      have q2 : zmf Jf (zu J 1868 (g / 30) (nI (g % 30 + 1))) := e2.zu (by simp [zmsc])
      obtain ⟨L1, r1, r2, r3⟩ := F7_goOn_ok (hQf.mf q2).1 hp (by rw [hm1]; exact hsv) (n := 5) (by decide)
      rw [hm1] at r2
      obtain ⟨L2, w1, w2, w3, w4⟩ := F7_row_ok (i := i) (by omega) (J := L1)
      have hz0 : ∀ x, zdyn x 0 = false → (∀ k, zdyn x k = false) → x ≠ 1868 → x ≠ 1895 → zu L2 1868 (g / 30) (J 1868 (g / 30)) x = J x := fun x _ hx h1 h2 => by rw [zu_row h1, w2 x h2, r3.row hx, zu_row h1]
      have hB : zu L2 1868 (g / 30) (J 1868 (g / 30)) 1868 = J 1868 := by
        have e68 : L1 1868 = zu J 1868 (g / 30) (nI (g % 30 + 1)) 1868 := r3.row fun k => by simp [zdyn]
        funext k
        by_cases ek : k = g / 30
        · rw [ek, zu_same]
        · rw [zu_off fun q => ek q.2, w2 1868 (by decide), e68, zu_off fun q => ek q.2]
      have hf3 : zmf Jf (zu L2 1868 (g / 30) (J 1868 (g / 30))) := by
        refine zmf.zu ?_ (by simp [zmsc])
        refine (q2.tr r3.mf).tr fun x k hx => ?_
        rw [w2 x (by intro e; subst e; simp [zmsc] at hx)]
      have h61 : zu L2 1868 (g / 30) (J 1868 (g / 30)) 1860 1 = Jf 1860 1 := by rw [zu_row (by decide), w2 1860 (by decide), r3 1860 1 (by simp [zdyn]), zu_row (by decide)]; exact e3
      obtain ⟨J2, u1, u2, u3, u4, u5, u6⟩ := F7_back_ok hp g2 (J := zu L2 1868 (g / 30) (J 1868 (g / 30))) (by rw [hz0 1886 (by simp [zdyn]) (fun k => by simp [zdyn]) (by decide) (by decide)]; exact e4) (fun j hj => by rw [hB]; exact hbow J e1 j hj) hf3 h61
      rw [t3] at u2
      refine Or.inl ⟨(nI (i + 1), J2), ?_, rfl, u2, u3, u4, ?_, ⟨?_, fun j hj => ?_⟩, fun j q hj hq => ?_⟩
      · dsimp only
        simp only [F_X7_look_L35, e5.1, ↓reduceIte, zg_true, zb1_e, zb2_e, zb3_e, zsum, zlet_e, nI_1, nI_ge hil (show l.length < 2 ^ 31 by omega), zin_n (show i < 180 by omega), nI_c (show i < 2147483648 by omega), e5i, ed, zin_n (show g / 30 < 12 by omega), nI_c (show g / 30 < 2147483648 by omega), er]
        rw [show (5 : Int32) = nI 5 from rfl, r1]
        simp only [↓reduceIte, zg_true, zb1_e, zb2_e, zb3_e, zsum, zlet_e, nI_1, w1, u1]
      · dsimp only; rw [u6 1886 (by decide) (by decide), hz0 1886 (by simp [zdyn]) (fun k => by simp [zdyn]) (by decide) (by decide)]; exact e4
      · dsimp only
        have : J2 1860 52 = J 1860 52 := by
          have hU := u1
          obtain ⟨J', a1, a2⟩ := F7_unpack_ok (I := zu L2 1868 (g / 30) (J 1868 (g / 30))) (a0 := 1886) (n0 := 57) (fr := 0) (by decide) (by decide) (by decide)
          rw [show nI 0 = (0 : Int32) from rfl, u1] at a1
          cases a1
          rw [a2.2.1 52 (by omega), zu_row (by decide), w2 1860 (by decide), r3 1860 52 (by simp [zdyn]), zu_row (by decide)]
        rw [this]; exact e5.1
      · dsimp only; rw [u6 1894 (by decide) (by decide), hz0 1894 (by simp [zdyn]) (fun k => by simp [zdyn]) (by decide) (by decide)]; exact e5.2 j hj
      · dsimp only
        rw [u6 1895 (by decide) (by decide), zu_row (by decide)]
        by_cases ej : j = i
        · subst ej
          rw [w3 q (by omega), hgd]
          unfold sp_R
          rw [← r2]
          exact (zmv26 hq).symm
        · rw [w4 _ (by omega), r3.row (x := 1895) fun k => by simp [zdyn], zu_row (by decide)]
          exact e6 j q (by omega) hq
    · rintro ⟨_, J⟩ ⟨rfl, e1, e2, e3, e4, e5, e6⟩
      refine ⟨J, ?_, e1, e2, e3, e5.1, e6⟩
      have h52 := e5.1
      dsimp only at h52 ⊢
      simp only [F_X7_look_L35, h52, ↓reduceIte, nI_le (Nat.le_refl (l.length)) (show l.length < 2 ^ 31 by omega)]
  · rw [q_in_no hw2]
    (obtain ⟨J, g1, g2, g3, g4⟩ := F7_fail_ok (P := P) 1 1 rfl hc em; refine ⟨J, ?_, g2, g3, g4⟩; simp only [F_X7_look, zlet_e, zb1_e, g1, zb2_e, qV]; try first | rfl | exact zlt_if (n := 1) (by assumption))
end L28
