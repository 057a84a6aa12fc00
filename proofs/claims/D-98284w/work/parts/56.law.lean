/-! CALL BY CALL: odds as fractions; gifts -/
set_option maxRecDepth 100000
theorem end_k : ∀ x, x < 17 → ∀ y, y < 17 → ((lg_cmp ((256 : Int32) - (nI x * nI y)).toInt64 (0 : Int64) = 0) ↔ (nI x = 16 ∧ nI y = 16)) := by decide +kernel
theorem sta_k : ∀ x, x < 17 → ∀ y, y < 17 → ((nI x).toInt64 * ((16 : Int32) - nI y).toInt64 = (nI x * ((16 : Int32) - nI y)).toInt64) ∧ 0 ≤ ((nI x).toInt64 * ((16 : Int32) - nI y).toInt64).toInt := by decide +kernel
theorem goe_k : ∀ x, x < 17 → 0 ≤ ((16 : Int64) * ((16 : Int32) + nI x).toInt64).toInt := by decide +kernel
theorem eas_k : ∀ x, x < 17 → ∀ y, y < 17 → ∀ z, z < 17 → ((0 ≤ lg_cmp (((nI x).toInt64 * ((16 : Int32) - nI y).toInt64) * ((256 : Int32) - (nI x * nI z)).toInt64) (((nI x).toInt64 * ((16 : Int32) - nI z).toInt64) * ((256 : Int32) - (nI x * nI y)).toInt64)) ↔ ((nI x * ((16 : Int32) - nI z)) * ((256 : Int32) - (nI x * nI y)) ≤ (nI x * ((16 : Int32) - nI y)) * ((256 : Int32) - (nI x * nI z)))) := by decide +kernel
section L5
variable {N : Int} {σ : MS × MS} {μ : MS}
theorem fr_L (σ : MS × MS) (μ : MS) (a b : Int64) : ∀ (n : Nat) (x y : Int64), f_X0_fraction_L9 σ a b n x y = f_X6_tellsBy_L6 μ a b n x y := by
  intro n
  induction n with
  | zero => intro x y; rfl
  | succ n ih => intro x y; simp only [f_X0_fraction_L9, f_X6_tellsBy_L6, ih]
theorem jabs_nn {a : Int64} (h : 0 ≤ a.toInt) : jabsL a = a := by
  unfold jabsL
  split
  · rfl
  · rename_i c
    have : a.toInt = 0 := by
      have : ¬ (0 : Int64).toInt < a.toInt := fun q => c (Int64.lt_iff_toInt_lt.mpr q)
      rw [show (0 : Int64).toInt = 0 from rfl] at this
      omega
    have e : a = 0 := Int64.toInt_inj.mp this
    subst e; rfl
/-- a fraction told -/
theorem ag_fr (h : RL N σ μ) {a b : Int64} (ha : 0 ≤ a.toInt) : RL N (f_X0_fraction (lsi σ 7 0) a b).1 (f_X6_tellsBy μ a b).1 ∧ (f_X6_tellsBy μ a b).2 = 1 ∧ gi (own (f_X0_fraction (lsi σ 7 0) a b).1) 7 = 0 ∧ KE μ (f_X6_tellsBy μ a b).1 := by
  simp only [f_X0_fraction, f_X6_tellsBy, f_X6_is, jabs_nn ha, fr_L (lsi σ 7 0) μ, if_true]
  exact ⟨⟨h.1, h.2.1, rfl, ⟨rfl, rfl⟩, h.2.2.2.2⟩, by first | trivial | rfl, rfl, KE.rf⟩
theorem ins_k (h : RL N σ μ) {p : Int32} (hp : 0 ≤ p.toInt ∧ p.toInt < (ga μ 0 0).toInt) : ∃ x, x < 17 ∧ ga (ttb σ) 21 p = nI x ∧ f_X6_insists μ p = nI x := by
  have q := (h.t.2.1 p hp).1
  have r := (SL_ps h.s (p := p) (by have := h.p; omega)).1
  obtain ⟨x, hx, ex⟩ := small_nI (n := 16) r
  exact ⟨x, by omega, q.trans ex, ex⟩
theorem endl (x y : Nat) (p q : Int32) (e1 : f_X6_insists μ p = nI x) (e2 : f_X6_insists μ q = nI y) : (f_X6_isEndless μ p q = 0) ↔ ¬ (nI x = 16 ∧ nI y = 16) := by
  unfold f_X6_isEndless
  dsimp only
  rw [e1, e2]
  by_cases c1 : nI x = 16
  · rw [if_pos c1]
    by_cases c2 : nI y = 16
    · rw [if_pos c2]; exact ⟨fun z => absurd z (by decide), fun z => absurd ⟨c1, c2⟩ z⟩
    · rw [if_neg c2]; exact ⟨fun _ z => c2 z.2, fun _ => rfl⟩
  · rw [if_neg c1]; exact ⟨fun _ z => c1 z.1, fun _ => rfl⟩
theorem law_duel (h : RL N σ μ) (p q : Int32) : AG N (f_X0_duel σ p q) (f_X6_duel μ p q) μ := by
  simp only [f_X0_duel, f_X6_duel, f_X0_whyNoDuel, e_two h]
  by_cases a : f_X6_areTwo μ p q = 0
  · simp only [if_pos a, if_neg (se_1 σ)]; exact ag_is0 h (by decide)
  · simp only [if_neg a]
    obtain ⟨h1, h2, -⟩ := areTwo a
    obtain ⟨x, hx, x1, x2⟩ := ins_k h h1
    obtain ⟨y, hy, y1, y2⟩ := ins_k h h2
    have e1 : f_X0_ending σ p q = ((256 : Int32) - (nI x * nI y)).toInt64 := by unfold f_X0_ending; rw [x1, y1]
    have e2 : (f_X6_behind μ p q).toInt64 = ((256 : Int32) - (nI x * nI y)).toInt64 := by unfold f_X6_behind; dsimp only; rw [x2, y2]
    have e3 : f_X0_stays σ p q = (f_X6_first μ p q).toInt64 := by unfold f_X0_stays f_X6_first; dsimp only; rw [x1, y1, x2, y2]; exact (sta_k x hx y hy).1
    have e4 : 0 ≤ (f_X6_first μ p q).toInt64.toInt := by rw [← e3]; unfold f_X0_stays; rw [x1, y1]; exact (sta_k x hx y hy).2
    rw [e1]
    simp only [end_k x hx y hy]
    by_cases c : nI x = 16 ∧ nI y = 16
    · simp only [if_pos c, if_neg (se_6 σ), if_neg (fun z => (endl x y p q x2 y2).mp z c)]; exact ag_is0 h (by decide)
    · simp only [if_neg c, if_pos (se_0 σ), if_pos ((endl x y p q x2 y2).mpr c)]
      have g := ag_fr h (a := (f_X6_first μ p q).toInt64) (b := (f_X6_behind μ p q).toInt64) e4
      rw [show f_X0_stays (lsi σ 7 0) p q = (f_X6_first μ p q).toInt64 from e3, show f_X0_ending (lsi σ 7 0) p q = (f_X6_behind μ p q).toInt64 from e1.trans e2.symm, if_pos g.2.2.1]
      exact ⟨g.2.1.symm, g.1, g.2.2.2⟩
theorem law_goes (h : RL N σ μ) (p q : Int32) : AG N (f_X0_goes σ p q) (f_X6_goes μ p q) μ := by
  simp only [f_X0_goes, f_X6_goes, f_X0_whyNoDuel, e_two h]
  by_cases a : f_X6_areTwo μ p q = 0
  · simp only [if_pos a, if_neg (se_1 σ)]; exact ag_is0 h (by decide)
  · simp only [if_neg a]
    obtain ⟨h1, h2, -⟩ := areTwo a
    obtain ⟨x, hx, x1, x2⟩ := ins_k h h1
    obtain ⟨y, hy, y1, y2⟩ := ins_k h h2
    have e1 : f_X0_ending σ p q = ((256 : Int32) - (nI x * nI y)).toInt64 := by unfold f_X0_ending; rw [x1, y1]
    have e2 : (f_X6_behind μ p q).toInt64 = ((256 : Int32) - (nI x * nI y)).toInt64 := by unfold f_X6_behind; dsimp only; rw [x2, y2]
    have e4 : 0 ≤ ((16 : Int64) * (16 + f_X6_insists μ p).toInt64).toInt := by rw [x2]; exact goe_k x hx
    rw [e1]
    simp only [end_k x hx y hy]
    by_cases c : nI x = 16 ∧ nI y = 16
    · simp only [if_pos c, if_neg (se_6 σ), if_neg (fun z => (endl x y p q x2 y2).mp z c)]; exact ag_is0 h (by decide)
    · simp only [if_neg c, if_pos (se_0 σ), if_pos ((endl x y p q x2 y2).mpr c)]
      have g := ag_fr h (a := (16 : Int64) * (16 + f_X6_insists μ p).toInt64) (b := (f_X6_behind μ p q).toInt64) e4
      rw [show ga (ttb (lsi σ 7 0)) 21 p = f_X6_insists μ p from x1.trans x2.symm, show f_X0_ending (lsi σ 7 0) p q = (f_X6_behind μ p q).toInt64 from e1.trans e2.symm, if_pos g.2.2.1]
      exact ⟨g.2.1.symm, g.1, g.2.2.2⟩
theorem e_rea_L (h : RL N σ μ) (s y : Int32) : ∀ (n : Nat) (a b : Int32), 0 ≤ b.toInt → f_X0_reach_L60 σ s y n a b = f_X6_quickOf_L4 μ s n a b := by
  intro n
  induction n with
  | zero => intro a b _; rfl
  | succ n ih =>
    intro a b hb
    have hp := h.p
    have hh : ∀ u v, f_X0_has u v = f_X6_isIn μ u v := fun _ _ => rfl
    simp only [f_X0_reach_L60, f_X6_quickOf_L4, h.t.n, hh]
    by_cases c : ga μ 0 0 ≤ b
    · simp only [if_pos c]
    · have c' := c_nle c
      have eb : (b + 1).toInt = b.toInt + 1 := inc1 (by omega) (by omega)
      simp only [if_neg c, (h.t.p hb c').2.1, ih _ (b + 1) (by omega)]
theorem law_reach (h : RL N σ μ) (s p : Int32) : AG N (f_X0_reach σ s p) (f_X6_reach μ s p) μ := by
  have hh : ∀ u v, f_X0_has u v = f_X6_isIn μ u v := fun _ _ => rfl
  simp only [f_X0_reach, f_X6_reach, e_isPer h, hh, isIn_v, Int32.toInt_toInt64, h.t.n, show (1 : Int64).toInt = 1 from rfl]
  have he : (((1 : Int32) <<< (ga μ 0 0 &&& 31)) - 1) = f_X6_everybody μ := rfl
  rw [he]
  by_cases a : f_X6_isPerson μ p = 0
  · simp only [if_pos a, if_neg (st_1 σ)]
    split
    · exact ag_is0 h (by decide)
    · split <;> exact ag_is0 h (by decide)
  · simp only [if_neg a]
    by_cases b : s < 0
    · have b' := c_lt b
      rw [z_0] at b'
      simp only [if_pos b, if_neg (show ¬ (1 ≤ s.toInt ∧ s.toInt ≤ (f_X6_everybody μ).toInt) by omega), if_neg (st_1 σ), if_true]
      exact ag_is0 h (by decide)
    · have b' := c_nlt b
      rw [z_0] at b'
      simp only [if_neg b]
      by_cases c : f_X6_everybody μ < s
      · have c' := c_lt c
        simp only [if_pos c, if_neg (show ¬ (1 ≤ s.toInt ∧ s.toInt ≤ (f_X6_everybody μ).toInt) by omega), if_neg (st_1 σ), if_true]
        exact ag_is0 h (by decide)
      · have c' := c_nlt c
        simp only [if_neg c]
        by_cases d : s.toInt = 0
        · have : s = 0 := Int32.toInt_inj.mp (by rw [z_0]; exact d)
          subst this
          have hz : f_X6_isIn μ 0 p = 0 := (isIn_0 (σ := μ) 0 p).mpr (by
            have hpp := isPer a
            obtain ⟨k, hk, ek⟩ := small_nI (x := p) (n := 31) (by have := h.p; omega)
            rw [ek]; exact sk_k k (by omega))
          simp only [hz, if_neg (show ¬ (1 ≤ (0 : Int32).toInt ∧ (0 : Int32).toInt ≤ (f_X6_everybody μ).toInt) by rw [z_0]; omega), if_neg (st_1 σ), if_true]
          exact ag_is0 h (by decide)
        · simp only [if_pos (show 1 ≤ s.toInt ∧ s.toInt ≤ (f_X6_everybody μ).toInt by omega), if_neg (show ¬ (1 : Int32) = 0 by decide)]
          by_cases f : f_X6_isIn μ s p = 0
          · simp only [if_pos f, if_neg (st_1 σ)]; exact ag_is0 h (by decide)
          · simp only [if_neg f, if_pos (st_0 σ)]
            have hq : f_X0_reach_L60 (lsi σ 7 0) s p 7 0 0 = f_X6_quickOf_L4 μ s 7 0 0 := e_rea_L (h.st 0) s p 7 0 0 (by rw [z_0]; omega)
            rw [hq]
            have hq2 : (f_X6_quickOf_L4 μ s 7 0 0).1 = f_X6_quickOf μ s := rfl
            rw [hq2]
            by_cases g : f_X6_quickOf μ s = 0
            · simp only [if_pos g, if_neg (se_6 _)]
              have q := ag_is0 (h.st 0) (w := 6) (by decide)
              exact ag_is0 h (w := 6) (by decide) |> fun z => ⟨z.1, by
                have e2 : (lsi (lsi σ 7 0) 7 6) = lsi σ 7 6 := by show (si (si σ.1 7 0) 7 6, σ.2) = (si σ.1 7 6, σ.2); rw [si_si]
                rw [e2]; exact z.2.1, z.2.2⟩
            · simp only [if_neg g, if_pos (se_0 _)]
              have e2 : (lsi (lsi σ 7 0) 7 0) = lsi σ 7 0 := by show (si (si σ.1 7 0) 7 0, σ.2) = (si σ.1 7 0, σ.2); rw [si_si]
              rw [e2]
              have hpp := isPer a
              have r := (SL_ps h.s (p := p) (by have := h.p; omega)).2.1
              have w := ag_fr h (a := (ga μ 0 (f_X6_personRow p + 1)).toInt64) (b := (f_X6_quickOf μ s).toInt64) (by rw [Int32.toInt_toInt64]; omega)
              rw [show ga (ttb (lsi σ 7 0)) 22 p = ga μ 0 (f_X6_personRow p + 1) from (h.t.2.1 p hpp).2.1, if_pos w.2.2.1]
              exact ⟨w.2.1.symm, w.1, w.2.2.2⟩
theorem e_eas_L (h : RL N σ μ) (y : Int32) (hy : 0 ≤ y.toInt ∧ y.toInt < (ga μ 0 0).toInt) : ∀ (n : Nat) (a b : Int32), 0 ≤ b.toInt → (-1 ≤ a.toInt ∧ a.toInt < (ga μ 0 0).toInt) → f_X0_easyOn_L30 σ y n a b = f_X6_easyOn_L18 μ y n a b ∧ -1 ≤ (f_X6_easyOn_L18 μ y n a b).1.toInt := by
  intro n
  induction n with
  | zero => intro a b _ ha; exact ⟨rfl, ha.1⟩
  | succ n ih =>
    intro a b hb ha
    have hp := h.p
    simp only [f_X0_easyOn_L30, f_X6_easyOn_L18, h.t.n]
    by_cases c : ga μ 0 0 ≤ b
    · simp only [if_pos c]; exact ⟨trivial, ha.1⟩
    · have c' := c_nle c
      have eb : (b + 1).toInt = b.toInt + 1 := inc1 (by omega) (by omega)
      have i1 := ih a (b + 1) (by omega) ha
      have i2 := ih b (b + 1) (by omega) (by omega)
      simp only [if_neg c]
      by_cases c2 : b = y
      · simp only [if_pos c2]; exact i1
      · simp only [if_neg c2]
        obtain ⟨x, hx, x1, x2⟩ := ins_k h hy
        obtain ⟨z, hz, w1, w2⟩ := ins_k h (p := b) ⟨hb, c'⟩
        have e1 : f_X0_ending σ y b = ((256 : Int32) - (nI x * nI z)).toInt64 := by unfold f_X0_ending; rw [x1, w1]
        rw [e1]
        simp only [end_k x hx z hz]
        by_cases c3 : nI x = 16 ∧ nI z = 16
        · simp only [if_pos c3, if_neg (fun q => (endl x z y b x2 w2).mp q c3)]; exact i1
        · simp only [if_neg c3, if_pos ((endl x z y b x2 w2).mpr c3), ← neg_m1 ha.1]
          by_cases c4 : a = -1
          · simp only [if_pos c4]; exact i2
          · simp only [if_neg c4]
            have a0 : ¬ a.toInt = -1 := fun q => c4 (Int32.toInt_inj.mp (by rw [z_m1]; exact q))
            obtain ⟨v, hv, v1, v2⟩ := ins_k h (p := a) ⟨by omega, ha.2⟩
            have k := eas_k x hx z hz v hv
            have s1 : f_X0_stays σ y b = (nI x).toInt64 * ((16 : Int32) - nI z).toInt64 := by unfold f_X0_stays; rw [x1, w1]
            have s2 : f_X0_stays σ y a = (nI x).toInt64 * ((16 : Int32) - nI v).toInt64 := by unfold f_X0_stays; rw [x1, v1]
            have s3 : f_X0_ending σ y a = ((256 : Int32) - (nI x * nI v)).toInt64 := by unfold f_X0_ending; rw [x1, v1]
            have t1 : f_X6_first μ y b = nI x * ((16 : Int32) - nI z) := by unfold f_X6_first; dsimp only; rw [x2, w2]
            have t2 : f_X6_first μ y a = nI x * ((16 : Int32) - nI v) := by unfold f_X6_first; dsimp only; rw [x2, v2]
            have t3 : f_X6_behind μ y a = (256 : Int32) - (nI x * nI v) := by unfold f_X6_behind; dsimp only; rw [x2, v2]
            have t4 : f_X6_behind μ y b = (256 : Int32) - (nI x * nI z) := by unfold f_X6_behind; dsimp only; rw [x2, w2]
            rw [s1, s2, s3, t1, t2, t3, t4]
            simp only [k]
            split
            · exact i1
            · exact i2
theorem law_easyOn (h : RL N σ μ) (p : Int32) : AG N (f_X0_easyOn σ p) (f_X6_easyOn μ p) μ := by
  simp only [f_X0_easyOn, f_X6_easyOn, e_isPer h]
  by_cases a : f_X6_isPerson μ p = 0
  · simp only [if_pos a, if_neg (st_1 σ)]; exact ag_ref h 1
  · simp only [if_neg a, if_pos (st_0 σ)]
    have hp := h.p
    have q := e_eas_L (h.st 0) p (isPer a) 7 (-1) 0 (by rw [z_0]; omega) (by rw [z_m1]; exact ⟨by omega, by show (-1 : Int) < (ga μ 0 0).toInt; omega⟩)
    exact ag_nn h (congrArg Prod.fst q.1) q.2
end L5
