/-! CALL BY CALL: gifts, who is in, extremes, texts fed -/
set_option maxRecDepth 100000
theorem e_next {g h : Int32} (hg : 0 ≤ g.toInt ∧ g.toInt ≤ 1000000) (hh : 0 ≤ h.toInt ∧ h.toInt ≤ 100) : f_X0_next g h = f_X6_nextGift g h := by
  have h1 : 0 ≤ g.toInt * h.toInt := Int.mul_nonneg hg.1 hh.1
  have h2 : g.toInt * h.toInt ≤ 1000000 * 100 := Int.mul_le_mul hg.2 hh.2 hh.1 (by omega)
  have m : (g * h).toInt = g.toInt * h.toInt := i_mul rfl rfl (by omega)
  have e : (g.toInt64 * h.toInt64) = (g * h).toInt64 := Int64.toInt_inj.mp (by
    rw [Int64.toInt_mul, Int32.toInt_toInt64, Int32.toInt_toInt64, Int32.toInt_toInt64, m]
    exact l_bm (by omega))
  have d : ((g * h).toInt64 / 100).toInt32 = (g * h) / 100 := Int32.toInt_inj.mp (by
    rw [Int64.toInt_toInt32, Int64.toInt_div, Int32.toInt_toInt64, Int32.toInt_div, m, show (100 : Int64).toInt = 100 from rfl, show (100 : Int32).toInt = 100 from rfl, Int.tdiv_eq_ediv_of_nonneg h1]
    have q1 : 0 ≤ g.toInt * h.toInt / 100 := Int.ediv_nonneg h1 (by omega)
    have q2 : g.toInt * h.toInt / 100 ≤ g.toInt * h.toInt := Int.ediv_le_self _ h1
    rw [l_bm (by omega)])
  unfold f_X0_next f_X6_nextGift
  rw [e, d]
theorem e_gif (a b : Int32) (μ : MS) : f_X0_isGift a b = f_X6_areGifts μ a b := by
  unfold f_X0_isGift f_X6_areGifts
  simp only [isFr]
theorem is_gif {a b : Int32} {μ : MS} (h : ¬ f_X6_areGifts μ a b = 0) : (1 ≤ a.toInt ∧ a.toInt ≤ 999) ∧ (0 ≤ b.toInt ∧ b.toInt ≤ 100) := by
  rw [← e_gif] at h
  exact lIsGift_ok rfl h
section L6
variable {N : Int} {σ : MS × MS} {μ : MS}
theorem e_gat_L (h : RL N σ μ) (hh k : Int32) (hr : 0 ≤ hh.toInt ∧ hh.toInt ≤ 100) : ∀ (n : Nat) (g i st : Int32), 1 ≤ g.toInt → ((st = 0 ∧ g.toInt ≤ 999999) ∨ (st = 7 ∧ 999999 < g.toInt)) → ∃ st', ((st' = 0 ∧ (f_X6_giftAt_L33 μ hh k n g i).1.toInt ≤ 999999) ∨ (st' = 7 ∧ 999999 < (f_X6_giftAt_L33 μ hh k n g i).1.toInt)) ∧ f_X0_giftAt_L35 hh k n g i (lsi σ 7 st) = ((f_X6_giftAt_L33 μ hh k n g i).1, (f_X6_giftAt_L33 μ hh k n g i).2, lsi σ 7 st') := by
  intro n
  induction n with
  | zero => intro g i st _ h2; exact ⟨st, h2, rfl⟩
  | succ n ih =>
    intro g i st h1 h2
    rw [f_X0_giftAt_L35, f_X6_giftAt_L33]
    by_cases c : k ≤ i
    · rw [if_pos c, if_pos c]; exact ⟨st, h2, rfl⟩
    · rw [if_neg c, if_neg c]
      have e0 : gi (own (lsi σ 7 st)) 7 = st := rfl
      rw [e0]
      rcases h2 with ⟨s0, hg⟩ | ⟨s7, hg⟩
      · subst s0
        rw [if_pos rfl, if_neg (show ¬ (999999 : Int32) < g from fun q => by have := c_lt q; rw [show (999999 : Int32).toInt = 999999 from rfl] at this; omega)]
        dsimp only
        rw [e_next (by omega) hr]
        have ng := nextGift_rng (by omega) hr (rfl : f_X6_nextGift g hh = f_X6_nextGift g hh)
        have e1 : ∀ v, lsi (lsi σ 7 0) 7 v = lsi σ 7 v := fun v => by show (si (si σ.1 7 0) 7 v, σ.2) = (si σ.1 7 v, σ.2); rw [si_si]
        rw [e1]
        refine ih _ _ _ (by omega) ?_
        by_cases c2 : f_X6_nextGift g hh ≤ 999999
        · have := c_le c2
          rw [show (999999 : Int32).toInt = 999999 from rfl] at this
          exact Or.inl ⟨if_pos c2, this⟩
        · have := c_nle c2
          rw [show (999999 : Int32).toInt = 999999 from rfl] at this
          exact Or.inr ⟨if_neg c2, this⟩
      · subst s7
        rw [if_neg (show ¬ (7 : Int32) = 0 by decide), if_pos (show (999999 : Int32) < g from Int32.lt_iff_toInt_lt.mpr (by rw [show (999999 : Int32).toInt = 999999 from rfl]; omega))]
        exact ⟨7, Or.inr ⟨rfl, hg⟩, rfl⟩
theorem e_gat_1 (hh k p : Int32) : f_X0_giftAt_L35 hh k 61 p 0 (lsi σ 7 1) = (p, 0, lsi σ 7 1) := by
  rw [f_X0_giftAt_L35]
  split
  · rfl
  · rw [if_neg (se_1 σ)]
theorem law_giftAt (h : RL N σ μ) (p hh k : Int32) : AG N (f_X0_giftAt σ p hh k) (f_X6_giftAt μ p hh k) μ := by
  simp only [f_X0_giftAt, f_X6_giftAt, e_gif p hh μ, isFr]
  by_cases a : f_X6_areGifts μ p hh = 0
  · simp only [if_pos a, e_gat_1, if_neg (st_1 σ)]; exact ag_ref h 1
  · simp only [if_neg a]
    by_cases b : f_X6_isFrom k.toInt64 0 60 = 0
    · simp only [if_pos b, e_gat_1, if_neg (st_1 σ)]; exact ag_ref h 1
    · simp only [if_neg b]
      obtain ⟨g1, g2⟩ := is_gif a
      obtain ⟨st', q1, q2⟩ := e_gat_L h hh k g2 61 p 0 0 (by omega) (Or.inl ⟨rfl, by omega⟩)
      rw [q2]
      dsimp only
      rcases q1 with ⟨s0, hg⟩ | ⟨s7, hg⟩
      · subst s0
        rw [if_pos (st_0 σ), if_pos (Int32.le_iff_toInt_le.mpr (by rw [show (999999 : Int32).toInt = 999999 from rfl]; exact hg))]
        exact ag_giv h rfl
      · subst s7
        rw [if_neg (st_7 σ), if_neg (fun q => by have := c_le q; rw [show (999999 : Int32).toInt = 999999 from rfl] at this; omega)]
        exact ag_ref h 7
/-- alike but for the status -/
def RM (N : Int) (σ : MS × MS) (μ : MS) : Prop := RL N (lsi σ 7 (gi μ 2)) μ
theorem RM.tt {N : Int} {σ : MS × MS} {μ : MS} (h : RM N σ μ) : RT (ttb σ) μ := h.1
theorem RL.m (h : RL N σ μ) (v : Int32) : RM N (lsi σ 7 v) μ := ⟨h.1, h.2.1, rfl, h.2.2.2⟩
theorem ag_gvR (h : RM N σ μ) {v w : Int32} (e : v = w) (e0 : gi (own σ) 7 = 0) : AG N (σ, v) (f_X6_gives μ w) μ := ⟨e, ⟨h.1, h.2.1, e0, h.2.2.2⟩, KE_si⟩
theorem RM.s2 (h : RM N σ μ) (a b : Int32) : RM N (lsi σ 20 a) (si μ 27 b) := ⟨h.1, h.2.1, rfl, h.2.2.2⟩
theorem e_end_L (p q hh : Int32) (hr : 0 ≤ hh.toInt ∧ hh.toInt ≤ 100) : ∀ (n : Nat) (g k : Int32) (σ : MS × MS) (μ : MS), RM N σ μ → (0 ≤ p.toInt ∧ p.toInt < (ga μ 0 0).toInt) → (0 ≤ q.toInt ∧ q.toInt < (ga μ 0 0).toInt) → 1 ≤ g.toInt ∧ g.toInt ≤ 2100 → gi (own σ) 20 = gi μ 27 → gi (own σ) 7 = 0 →
    ∃ σ' μ', f_X0_endOf_L11 p q hh n g k σ = ((f_X6_endOf_L11 p q hh n g k μ).1, (f_X6_endOf_L11 p q hh n g k μ).2.1, σ') ∧ (f_X6_endOf_L11 p q hh n g k μ).2.2 = μ' ∧ RM N σ' μ' ∧ gi (own σ') 20 = gi μ' 27 ∧ gi (own σ') 7 = 0 ∧ KE μ μ' := by
  intro n
  induction n with
  | zero => intro g k σ μ h _ _ _ e e2; exact ⟨σ, μ, rfl, rfl, h, e, e2, KE.rf⟩
  | succ n ih =>
    intro g k σ μ h hp hq hg e e2
    rw [f_X0_endOf_L11, f_X6_endOf_L11]
    dsimp only
    generalize hw : (if k - k / 2 * 2 = 0 then p else q) = w
    have hwp : 0 ≤ w.toInt ∧ w.toInt < (ga μ 0 0).toInt := by
      rw [← hw]; split
      · exact hp
      · exact hq
    have em : ga (ttb σ) 24 w = ga μ 0 (f_X6_personRow w + 3) := (RL.t h |>.2.1 w hwp).2.2.2.1
    have mr := (SL_ps (RL.s h) (p := w) (by have := RL.p h; omega)).2.2.2.1
    rw [em]
    by_cases c : ga μ 0 (f_X6_personRow w + 3) < g
    · rw [if_neg (fun z => by have := c_le z; have := c_lt c; omega), if_pos c]
      exact ⟨σ, μ, rfl, rfl, h, e, e2, KE.rf⟩
    · have c' := c_nlt c
      rw [if_pos (Int32.le_iff_toInt_le.mpr c'), if_neg c]
      have ng := nextGift_rng (by omega) hr (rfl : f_X6_nextGift g hh = f_X6_nextGift g hh)
      rw [e_next (by omega) hr, e]
      obtain ⟨σ', μ', r1, r2, r3, r4, r5, r6⟩ := ih (f_X6_nextGift g hh) (k + 1) (lsi σ 20 (gi μ 27 + g)) (si μ 27 (gi μ 27 + g)) (RM.s2 h _ _) hp hq (by omega) rfl e2
      exact ⟨σ', μ', r1, r2, r3, r4, r5, KE.tr KE_si r6⟩
theorem e_end (h : RM N σ μ) {p q g hh : Int32} (hp : 0 ≤ p.toInt ∧ p.toInt < (ga μ 0 0).toInt) (hq : 0 ≤ q.toInt ∧ q.toInt < (ga μ 0 0).toInt) (hg : 1 ≤ g.toInt ∧ g.toInt ≤ 999) (hr : 0 ≤ hh.toInt ∧ hh.toInt ≤ 100) (e2 : gi (own σ) 7 = 0) : (f_X0_endOf σ p q g hh).2 = (f_X6_endOf μ p q g hh).2 ∧ RM N (f_X0_endOf σ p q g hh).1 (f_X6_endOf μ p q g hh).1 ∧ gi (own (f_X0_endOf σ p q g hh).1) 20 = gi (f_X6_endOf μ p q g hh).1 27 ∧ gi (own (f_X0_endOf σ p q g hh).1) 7 = 0 ∧ KE μ (f_X6_endOf μ p q g hh).1 := by
  obtain ⟨σ', μ', r1, r2, r3, r4, r5, r6⟩ := e_end_L (N := N) p q hh hr 2101 g 0 (lsi σ 20 0) (si μ 27 0) (RM.s2 h 0 0) hp hq (by omega) rfl e2
  simp only [f_X0_endOf, f_X6_endOf, r1, r2]
  exact ⟨trivial, r3, r4, r5, KE.tr KE_si r6⟩
theorem law_ends (h : RL N σ μ) (p q g hh : Int32) : AG N (f_X0_ends σ p q g hh) (f_X6_ends μ p q g hh) μ := by
  simp only [f_X0_ends, f_X6_ends, e_two h, e_gif g hh μ]
  by_cases a : f_X6_areTwo μ p q = 0
  · simp only [if_pos a, if_neg (st_1 σ)]; exact ag_ref h 1
  · simp only [if_neg a]
    by_cases b : f_X6_areGifts μ g hh = 0
    · simp only [if_pos b, if_neg (st_1 σ)]; exact ag_ref h 1
    · simp only [if_neg b, if_pos (st_0 σ)]
      obtain ⟨h1, h2, -⟩ := areTwo a
      obtain ⟨g1, g2⟩ := is_gif b
      obtain ⟨m1, m2, m3, m4, m5⟩ := e_end (h.m 0) (p := p) (q := q) (g := g) (hh := hh) h1 h2 g1 g2 rfl
      have z := ag_gvR m2 m1 m4
      exact ⟨z.1, z.2.1, KE.tr m5 z.2.2⟩
theorem law_wasted (h : RL N σ μ) (p q g hh : Int32) : AG N (f_X0_wasted σ p q g hh) (f_X6_wasted μ p q g hh) μ := by
  simp only [f_X0_wasted, f_X6_wasted, e_two h, e_gif g hh μ]
  by_cases a : f_X6_areTwo μ p q = 0
  · simp only [if_pos a, if_neg (st_1 σ)]; exact ag_ref h 1
  · simp only [if_neg a]
    by_cases b : f_X6_areGifts μ g hh = 0
    · simp only [if_pos b, if_neg (st_1 σ)]; exact ag_ref h 1
    · simp only [if_neg b, if_pos (st_0 σ)]
      obtain ⟨h1, h2, -⟩ := areTwo a
      obtain ⟨g1, g2⟩ := is_gif b
      obtain ⟨m1, m2, m3, m4, m5⟩ := e_end (h.m 0) (p := p) (q := q) (g := g) (hh := hh) h1 h2 g1 g2 rfl
      have z := ag_gvR m2 m3 m4
      exact ⟨z.1, z.2.1, KE.tr m5 z.2.2⟩
-- who is in
theorem xor_k : ∀ n, n < 64 → ∀ k, k < 6 → 0 ≤ (nI n ^^^ ((1 : Int32) <<< (nI k &&& 31))).toInt ∧ (nI n ^^^ ((1 : Int32) <<< (nI k &&& 31))).toInt ≤ 63 := by decide +kernel
theorem law_comes (h : RL N σ μ) (p k : Int32) : AG N (f_X0_comes σ p k) (f_X6_comes μ p k) μ := by
  have hh : ∀ u v, f_X0_has u v = f_X6_isIn μ u v := fun _ _ => rfl
  simp only [f_X0_comes, f_X6_comes, e_isPer h, e_rng3 k 1 1 rfl, hh, h.t.i]
  by_cases a : f_X6_isPerson μ p = 0
  · simp only [if_pos a, if_neg (st_1 σ)]; exact ag_ref h 1
  · simp only [if_neg a]
    by_cases c : k < 0
    · simp only [if_pos c, if_neg (st_1 σ), if_pos (show (0 : Int32) = 0 from rfl)]; exact ag_ref h 1
    · simp only [if_neg c]
      by_cases e : 1 < k
      · simp only [if_pos e, if_neg (st_1 σ), if_pos (show (0 : Int32) = 0 from rfl), if_neg (fun q : k ≤ 1 => absurd (c_le q) (by have := c_lt e; omega))]; exact ag_ref h 1
      · have k1 := c_nlt e
        simp only [if_neg e, if_pos (Int32.le_iff_toInt_le.mpr k1), if_neg (show ¬ (1 : Int32) = 0 by decide)]
        generalize (if k = 1 then (1 : Int32) else 0) = w
        by_cases d : f_X6_isIn μ (ga μ 0 8) p = w
        · simp only [if_pos d, if_neg (st_7 σ)]; exact ag_ref h 7
        · simp only [if_neg d, if_pos (st_0 σ)]
          have hp := isPer a
          have hP := h.p
          have hin := SL_in h.s
          have e0 : gi (ttb (lsi σ 7 0)) 8 = ga μ 0 8 := h.t.i
          rw [e0, ga_sa_eq]
          have xr : 0 ≤ (ga μ 0 8 ^^^ ((1 : Int32) <<< (p &&& 31))).toInt ∧ (ga μ 0 8 ^^^ ((1 : Int32) <<< (p &&& 31))).toInt ≤ 63 := by
            obtain ⟨i, hi, ei⟩ := small_nI (n := 63) hin
            obtain ⟨j, hj, ej⟩ := small_nI (x := p) (n := 5) (by omega)
            rw [ei, ej]; exact xor_k i (by omega) j (by omega)
          have g : RL N (tsi (lsi σ 7 0) 8 (ga μ 0 8 ^^^ ((1 : Int32) <<< (p &&& 31)))) (sa (si μ 2 0) 0 8 (ga μ 0 8 ^^^ ((1 : Int32) <<< (p &&& 31)))) := by
            have h0 := h.st 0
            exact ⟨RT_num (k := 8) (i := 8) h0.t h0.s (by decide), ⟨SL_sa z_8 (by omega) (by omega) (fun _ _ => by unfold CV; omega) h0.s, DP0_s0 h0.2.1.2.1 h0.s z_8 (by omega), PB_ne h0.b (by decide) (by decide), h.2.1.2.2.2⟩, h0.2.2⟩
          refine ⟨?_, ⟨g.1, g.2.1, g.2.2⟩, (KE_s0 z_8 (by omega)).tr KE_si⟩
          show f_J11_bitCount (ga μ 0 8 ^^^ ((1 : Int32) <<< (p &&& 31))) = _
          exact bc_bits xr
-- extremes
theorem lay_L (h1 : Int32 → Int32) : ∀ (n : Nat) (b : Int32) (σ : MS × MS), ∃ c, (f_X0_balances_L2 n b σ).1 = c ∧ True := fun n b σ => ⟨_, rfl, trivial⟩
/-- LetMe's balances are laid -/
theorem e_lay_L : ∀ (n : Nat) (b : Int32) (σ : MS × MS) (μ : MS), RM N σ μ → 0 ≤ b.toInt → (ga μ 0 0).toInt < b.toInt + n → (∀ q : Int32, 0 ≤ q.toInt → q.toInt < b.toInt → q.toInt < (ga μ 0 0).toInt → ga (own σ) 17 q = f_X6_balanceOf μ q) → RM N (f_X0_balances_L2 n b σ).2 μ ∧ gi (own (f_X0_balances_L2 n b σ).2) 7 = gi (own σ) 7 ∧ ∀ q : Int32, 0 ≤ q.toInt → q.toInt < (ga μ 0 0).toInt → ga (own (f_X0_balances_L2 n b σ).2) 17 q = f_X6_balanceOf μ q := by
  intro n
  induction n with
  | zero => intro b σ μ h hb hn hq; exact ⟨h, rfl, fun q h0 h1 => hq q h0 (by omega) h1⟩
  | succ n ih =>
    intro b σ μ h hb hn hq
    rw [f_X0_balances_L2]
    have en : gi (ttb σ) 1 = ga μ 0 0 := (RL.t h).n
    have hp := RL.p h
    rw [en]
    by_cases c : ga μ 0 0 ≤ b
    · rw [if_pos c]
      have := c_le c
      exact ⟨h, rfl, fun q h0 h1 => hq q h0 (by omega) h1⟩
    · rw [if_neg c]
      have c' := c_nle c
      have eb : (b + 1).toInt = b.toInt + 1 := inc1 (by omega) (by omega)
      have e1 : f_X5_balance (ttb σ) b = f_X6_balanceOf μ b := e_bal (RL.t h) (RL.s h) b (by omega)
      dsimp only
      rw [e1]
      have g : RM N (lsa σ 17 b (f_X6_balanceOf μ b)) μ := by
        obtain ⟨t, s, r0, r1, r2, r3, r4, r5⟩ := h
        refine ⟨t, s, rfl, r1, ⟨r2.1, r2.2.1, fun j j0 j1 => (r2.2.2 j j0 j1 |> fun z => (ga_sa_k (by decide)).trans z)⟩, r3, ⟨r4.1, (ga_sa_k (by decide)).trans r4.2⟩, r5.1, fun j j0 j1 => (ga_sa_k (by decide)).trans (r5.2 j j0 j1)⟩
      obtain ⟨x1, x2, x3⟩ := ih (b + 1) (lsa σ 17 b (f_X6_balanceOf μ b)) μ g (by omega) (by omega) (fun q h0 h1 h2 => by
        show ga (sa σ.1 17 b (f_X6_balanceOf μ b)) 17 q = _
        by_cases z : b.toInt = q.toInt
        · have := Int32.toInt_inj.mp z
          subst this
          exact ga_sa_eq
        · rw [ar_ne z (by omega) h0]
          exact hq q h0 (by omega) h2)
      exact ⟨x1, x2, x3⟩
theorem e_lay (h : RM N σ μ) : RM N (f_X0_balances σ) μ ∧ gi (own (f_X0_balances σ)) 7 = gi (own σ) 7 ∧ ∀ q : Int32, 0 ≤ q.toInt → q.toInt < (ga μ 0 0).toInt → ga (own (f_X0_balances σ)) 17 q = f_X6_balanceOf μ q := by
  have hp := RL.p h
  unfold f_X0_balances
  exact e_lay_L 7 0 σ μ h (by rw [z_0]; omega) (by rw [z_0]; omega) (fun q h0 h1 => by rw [z_0] at h1; omega)
end L6
