/-! CALL BY CALL: extremes, even dinners, texts fed -/
set_option maxRecDepth 100000
section L7
variable {N : Int} {σ : MS × MS} {μ : MS}
theorem RM.up {u : MS} (h : RM N σ μ) (h1 : ga u 0 = ga μ 0) (h2 : ∀ k, gi u k = gi μ k) (h3 : ∀ k, gl u k = gl μ k) (h4 : ∀ i, ga u 8 i = ga μ 8 i) (h5 : ∀ i, ga u 32 i = ga μ 32 i) : RM N σ u := by
  have e : ∀ i, ga u 0 i = ga μ 0 i := fun i => congrFun h1 i
  obtain ⟨t, ⟨s1, s2, s3, s4⟩, r0, r1, r2, r3, r4, r5⟩ := h
  refine ⟨?_, ⟨?_, ?_, ?_, s4⟩, rfl, ?_, ?_, ?_, ?_, ?_⟩
  · unfold RT at t ⊢
    rw [h1]; exact t
  · unfold SL at s1 ⊢
    rw [h1]; exact s1
  · unfold DP0 at s2 ⊢
    rw [h1]; exact s2
  · unfold PB at s3 ⊢
    rw [h1]; exact s3
  · exact ⟨r1.1.trans (h3 3).symm, r1.2.trans (h3 4).symm⟩
  · exact ⟨r2.1.trans (h2 10).symm, by rw [h2]; exact r2.2.1, fun j j0 j1 => by rw [h2] at j1; rw [h4]; exact r2.2.2 j j0 j1⟩
  · exact ⟨r3.1.trans (h2 16).symm, r3.2.trans (h2 17).symm⟩
  · exact ⟨r4.1.trans (h2 34).symm, r4.2⟩
  · exact ⟨r5.1.trans (h2 33).symm, fun j j0 j1 => by rw [h2] at j1; rw [h5]; exact r5.2 j j0 j1⟩
theorem RM.x5 {i v : Int32} {k : Nat} (h : RM N σ μ) (hk : k ≠ 0 ∧ k ≠ 8 ∧ k ≠ 32) : RM N σ (sa μ k i v) :=
  h.up (funext fun j => ga_sa_k (fun e => hk.1 e.symm)) (fun _ => rfl) (fun _ => rfl) (fun _ => ga_sa_k (fun e => hk.2.1 e.symm)) (fun _ => ga_sa_k (fun e => hk.2.2 e.symm))
theorem e_lays_L : ∀ (n : Nat) (b : Int32) (σ : MS × MS) (μ u : MS), RM N σ μ → RM N σ u → (∀ j, ga u 0 j = ga μ 0 j) → 0 ≤ b.toInt → (ga μ 0 0).toInt < b.toInt + n → (∀ q : Int32, 0 ≤ q.toInt → q.toInt < b.toInt → q.toInt < (ga μ 0 0).toInt → ga u 25 q = f_X6_balanceOf μ q) → RM N σ (f_X6_laysBalances_L2 n b u).2 ∧ (∀ j, ga (f_X6_laysBalances_L2 n b u).2 0 j = ga μ 0 j) ∧ KE u (f_X6_laysBalances_L2 n b u).2 ∧ ∀ q : Int32, 0 ≤ q.toInt → q.toInt < (ga μ 0 0).toInt → ga (f_X6_laysBalances_L2 n b u).2 25 q = f_X6_balanceOf μ q := by
  intro n
  induction n with
  | zero => intro b σ μ u h hu he hb hn hq; exact ⟨hu, he, KE.rf, fun q h0 h1 => hq q h0 (by omega) h1⟩
  | succ n ih =>
    intro b σ μ u h hu he hb hn hq
    rw [f_X6_laysBalances_L2]
    have hp := RL.p h
    rw [he]
    by_cases c : ga μ 0 0 ≤ b
    · rw [if_pos c]
      have := c_le c
      exact ⟨hu, he, KE.rf, fun q h0 h1 => hq q h0 (by omega) h1⟩
    · rw [if_neg c]
      have c' := c_nle c
      have eb : (b + 1).toInt = b.toInt + 1 := inc1 (by omega) (by omega)
      dsimp only
      rw [balanceOf_A0 he]
      obtain ⟨x1, x2, x3, x4⟩ := ih (b + 1) σ μ (sa u 25 b (f_X6_balanceOf μ b)) h (hu.x5 (by decide)) (fun j => (ga_sa_k (by decide)).trans (he j)) (by omega) (by omega) (fun q h0 h1 h2 => by
        by_cases z : b.toInt = q.toInt
        · have := Int32.toInt_inj.mp z
          subst this
          exact ga_sa_eq
        · rw [ar_ne z (by omega) h0]
          exact hq q h0 (by omega) h2)
      exact ⟨x1, x2, (KE_sa (by decide)).tr x3, x4⟩
theorem e_lays (h : RM N σ μ) : RM N σ (f_X6_laysBalances μ) ∧ (∀ j, ga (f_X6_laysBalances μ) 0 j = ga μ 0 j) ∧ KE μ (f_X6_laysBalances μ) ∧ ∀ q : Int32, 0 ≤ q.toInt → q.toInt < (ga μ 0 0).toInt → ga (f_X6_laysBalances μ) 25 q = f_X6_balanceOf μ q := by
  have hp := RL.p h
  unfold f_X6_laysBalances
  exact e_lays_L 7 0 σ μ μ h h (fun _ => rfl) (by rw [z_0]; omega) (by rw [z_0]; omega) (fun q h0 h1 => by rw [z_0] at h1; omega)
theorem e_ext_L {w : Int32} (h : RM N σ μ) (hq : ∀ q : Int32, 0 ≤ q.toInt → q.toInt < (ga μ 0 0).toInt → ga (own σ) 17 q = ga μ 25 q) : ∀ (n : Nat) (a b : Int32), 0 ≤ b.toInt → (-1 ≤ a.toInt ∧ a.toInt < (ga μ 0 0).toInt) → f_X0_extremeOf_L4 σ w n a b = (if w = 0 then f_X6_leastLeft_L4 μ n a b else f_X6_mostLeft_L4 μ n a b) ∧ -1 ≤ (f_X0_extremeOf_L4 σ w n a b).1.toInt ∧ (f_X0_extremeOf_L4 σ w n a b).1.toInt < (ga μ 0 0).toInt := by
  intro n
  induction n with
  | zero => intro a b _ ha; exact ⟨by split <;> rfl, ha⟩
  | succ n ih =>
    intro a b hb ha
    have hp := RL.p h
    have en : gi (ttb σ) 1 = ga μ 0 0 := (RL.t h).n
    simp only [f_X0_extremeOf_L4, f_X6_leastLeft_L4, f_X6_mostLeft_L4, en, ← neg_m1 ha.1]
    by_cases c : ga μ 0 0 ≤ b
    · simp only [if_pos c]; exact ⟨by split <;> rfl, ha⟩
    · have c' := c_nle c
      have eb : (b + 1).toInt = b.toInt + 1 := inc1 (by omega) (by omega)
      have i1 := ih a (b + 1) (by omega) ha
      have i2 := ih b (b + 1) (by omega) (by omega)
      simp only [if_neg c]
      by_cases c2 : a = -1
      · simp only [if_pos c2]; exact i2
      · simp only [if_neg c2]
        have a0 : ¬ a.toInt = -1 := fun q => c2 (Int32.toInt_inj.mp (by rw [z_m1]; exact q))
        rw [hq b hb c', hq a (by omega) ha.2]
        by_cases w0 : w = 0
        · simp only [if_pos w0] at i1 i2 ⊢
          split
          · exact i1
          · exact i2
        · simp only [if_neg w0] at i1 i2 ⊢
          split
          · exact i1
          · exact i2
theorem e_ext {w : Int32} (h : RM N σ μ) (hq : ∀ q : Int32, 0 ≤ q.toInt → q.toInt < (ga μ 0 0).toInt → ga (own σ) 17 q = ga μ 25 q) : f_X0_extremeOf σ w = (if w = 0 then f_X6_leastLeft μ else f_X6_mostLeft μ) ∧ -1 ≤ (f_X0_extremeOf σ w).toInt ∧ (f_X0_extremeOf σ w).toInt < (ga μ 0 0).toInt := by
  have hp := RL.p h
  have q := e_ext_L (w := w) h hq 7 (-1) 0 (by rw [z_0]; omega) (by rw [z_m1]; omega)
  unfold f_X0_extremeOf f_X6_leastLeft f_X6_mostLeft
  refine ⟨?_, q.2⟩
  show (f_X0_extremeOf_L4 σ w 7 (-1) 0).1 = _
  rw [q.1]
  split <;> rfl
theorem ag_nnR (h : RM N σ μ) {v w : Int32} (e : v = w) (hv : -1 ≤ w.toInt) : AG N (f_X0_answer σ v) (f_X6_orNone μ w) μ := by
  have q := ag_non (show RL N (lsi σ 7 (gi μ 2)) μ from h) e hv
  refine ⟨q.1, ?_, q.2.2⟩
  have e2 : (f_X0_answer (lsi σ 7 (gi μ 2)) v).1 = (f_X0_answer σ v).1 := by
    unfold f_X0_answer
    show (si (si σ.1 7 _) 7 _, σ.2) = (si σ.1 7 _, σ.2)
    rw [si_si]
  rw [← e2]; exact q.2.1
theorem law_extreme (h : RL N σ μ) (w : Int32) : AG N (f_X0_extreme σ w) (f_X6_extreme μ w) μ := by
  simp only [f_X0_extreme, f_X6_extreme, e_rng3 w 1 1 rfl]
  by_cases c : w < 0
  · simp only [if_pos c, if_neg (st_1 σ)]; exact ag_ref h 1
  · simp only [if_neg c]
    by_cases e : 1 < w
    · simp only [if_pos e, if_neg (st_1 σ), if_neg (fun q : w ≤ 1 => absurd (c_le q) (by have := c_lt e; omega))]; exact ag_ref h 1
    · have k1 := c_nlt e
      simp only [if_neg e, if_pos (Int32.le_iff_toInt_le.mpr k1), if_neg (show ¬ (1 : Int32) = 0 by decide), if_pos (st_0 σ)]
      obtain ⟨a1, a2, a3⟩ := e_lay (h.m 0)
      obtain ⟨b1, b2, b3, b4⟩ := e_lays a1
      have hq : ∀ q : Int32, 0 ≤ q.toInt → q.toInt < (ga (f_X6_laysBalances μ) 0 0).toInt → ga (own (f_X0_balances (lsi σ 7 0))) 17 q = ga (f_X6_laysBalances μ) 25 q := fun q h0 h1 => by
        rw [b2] at h1
        rw [a3 q h0 h1, b4 q h0 h1]
      have x := e_ext (w := w) b1 hq
      have z := ag_nnR b1 (v := f_X0_extremeOf (f_X0_balances (lsi σ 7 0)) w) (w := f_X0_extremeOf (f_X0_balances (lsi σ 7 0)) w) rfl x.2.1
      rw [x.1] at z ⊢
      exact ⟨z.1, z.2.1, b3.tr z.2.2⟩
-- even dinners
theorem div_law {n d b hh : Int} (hn : 1 ≤ n) (hh1 : 1 ≤ hh) : (n * d - b < 0 ∨ ¬ (n * d - b) % (n * hh) = 0) ↔ (¬ b % n = 0 ∨ d - b / n < 0 ∨ ¬ (d - b / n) % hh = 0) := by
  by_cases hb : b % n = 0
  · have eb : b = n * (b / n) := by have := Int.mul_ediv_add_emod b n; omega
    generalize b / n = q at eb ⊢
    subst eb
    rw [← Int.mul_sub, Int.mul_emod_mul_of_pos _ _ (by omega)]
    have : (n * (d - q) < 0) ↔ (d - q < 0) := ⟨fun z => Int.not_le.mp (fun w => by have := Int.mul_nonneg (show 0 ≤ n by omega) w; omega), fun z => Int.mul_neg_of_pos_of_neg (by omega) z⟩
    rw [this]
    have m0 : (n * ((d - q) % hh) = 0) ↔ ((d - q) % hh = 0) := ⟨fun z => (Int.mul_eq_zero.mp z).resolve_left (by omega), fun z => by rw [z, Int.mul_zero]⟩
    rw [m0]
    simp [hb]
  · have : ¬ (n * d - b) % (n * hh) = 0 := fun z => hb (by
      have d1 : n * hh ∣ n * d - b := Int.dvd_of_emod_eq_zero z
      have d2 : n ∣ n * d - b := Int.dvd_trans ⟨hh, rfl⟩ d1
      have d3 : n ∣ b := by
        have := Int.dvd_sub (Int.dvd_mul_right n d) d2
        rwa [show n * d - (n * d - b) = b by omega] at this
      exact Int.emod_eq_zero_of_dvd d3)
    simp [hb, this]
theorem div_val {n d b hh : Int} (hn : 1 ≤ n) (hh1 : 1 ≤ hh) (hb : b % n = 0) : (n * d - b) / (n * hh) = (d - b / n) / hh := by
  have eb : b = n * (b / n) := by have := Int.mul_ediv_add_emod b n; omega
  generalize b / n = q at eb ⊢
  subst eb
  rw [← Int.mul_sub, Int.mul_ediv_mul_of_pos _ _ (by omega)]
end L7
theorem t0_rem {a b : Int32} (hb : ¬ b = 0) : (a - a / b * b = 0) ↔ a.toInt % b.toInt = 0 := by
  rw [← Int32.toInt_inj, irem_toInt a b hb, z_0]
  constructor
  · intro h; exact Int.emod_eq_zero_of_dvd (Int.dvd_of_tmod_eq_zero h)
  · intro h; exact Int.tmod_eq_zero_of_dvd (Int.dvd_of_emod_eq_zero h)
theorem e_even {n d b hh : Int32} (hn : 1 ≤ n.toInt ∧ n.toInt ≤ 99) (hd : 0 ≤ d.toInt ∧ d.toInt ≤ 99) (hb : -6000000 ≤ b.toInt ∧ b.toInt ≤ 6000000) (h1 : 1 ≤ hh.toInt ∧ hh.toInt ≤ 6) :
    (if n * d - b < 0 then (-1 : Int32) else if (n * d - b) - (n * d - b) / (n * hh) * (n * hh) = 0 then (n * d - b) / (n * hh) else -1) = (if b - b / n * n = 0 then (if (d - b / n) - (d - b / n) / hh * hh = 0 then (if b / n ≤ d then (d - b / n) / hh else -1) else -1) else -1) := by
  have m1 : n.toInt * d.toInt ≤ 99 * 99 := Int.mul_le_mul hn.2 hd.2 hd.1 (by omega)
  have m0 : 0 ≤ n.toInt * d.toInt := Int.mul_nonneg (by omega) hd.1
  have k1 : n.toInt * hh.toInt ≤ 99 * 6 := Int.mul_le_mul hn.2 h1.2 (by omega) (by omega)
  have k0 : 1 * 1 ≤ n.toInt * hh.toInt := Int.mul_le_mul hn.1 h1.1 (by omega) (by omega)
  have ev : (n * d - b).toInt = n.toInt * d.toInt - b.toInt := i_sub (i_mul rfl rfl (by omega)) rfl (by omega)
  have ek : (n * hh).toInt = n.toInt * hh.toInt := i_mul rfl rfl (by omega)
  have nk : ¬ n * hh = 0 := ne_pos (by omega)
  have nn : ¬ n = 0 := ne_pos hn.1
  have nh : ¬ hh = 0 := ne_pos h1.1
  have L := div_law (n := n.toInt) (d := d.toInt) (b := b.toInt) (hh := hh.toInt) hn.1 h1.1
  have c0 : (n * d - b < 0) ↔ (n.toInt * d.toInt - b.toInt < 0) := by rw [Int32.lt_iff_toInt_lt, ev, z_0]
  have c1 := t0_rem (a := n * d - b) nk
  rw [ev, ek] at c1
  have c2 := t0_rem (a := b) nn
  by_cases hb0 : b.toInt % n.toInt = 0
  · have eq : (b / n).toInt = b.toInt / n.toInt := by
      rw [Int32.toInt_div, Int.tdiv_eq_ediv_of_dvd (Int.dvd_of_emod_eq_zero hb0)]
      have q1 : b.toInt / n.toInt ≤ 6000000 := by
        have := Int.ediv_le_ediv (c := n.toInt) (by omega) hb.2
        have := Int.ediv_le_self (a := 6000000) n.toInt (by omega)
        omega
      have q2 : -6000000 ≤ b.toInt / n.toInt := by
        have := Int.mul_ediv_add_emod b.toInt n.toInt
        refine Int.not_lt.mp (fun z => ?_)
        have w : n.toInt * (b.toInt / n.toInt) ≤ 1 * (b.toInt / n.toInt) := Int.mul_le_mul_of_nonpos_right hn.1 (by omega)
        omega
      exact i_bm (by omega)
    have q1 : b.toInt / n.toInt ≤ 6000000 := by
      have := Int.ediv_le_ediv (c := n.toInt) (by omega) hb.2
      have := Int.ediv_le_self (a := 6000000) n.toInt (by omega)
      omega
    have q2 : -6000000 ≤ b.toInt / n.toInt := by
      have := Int.mul_ediv_add_emod b.toInt n.toInt
      refine Int.not_lt.mp (fun z => ?_)
      have w : n.toInt * (b.toInt / n.toInt) ≤ 1 * (b.toInt / n.toInt) := Int.mul_le_mul_of_nonpos_right hn.1 (by omega)
      omega
    have ed : (d - b / n).toInt = d.toInt - b.toInt / n.toInt := i_sub rfl eq (by omega)
    have c3 := t0_rem (a := d - b / n) nh
    rw [ed] at c3
    rw [if_pos (c2.mpr hb0)]
    have c4 : (b / n ≤ d) ↔ (b.toInt / n.toInt ≤ d.toInt) := by rw [Int32.le_iff_toInt_le, eq]
    by_cases d0 : d.toInt - b.toInt / n.toInt < 0
    · have l := L.mpr (Or.inr (Or.inl d0))
      rw [if_neg (show ¬ b / n ≤ d from fun z => by have := c4.mp z; omega)]
      have r : (if (d - b / n) - (d - b / n) / hh * hh = 0 then (-1 : Int32) else -1) = -1 := by split <;> rfl
      rw [r]
      rcases l with l | l
      · rw [if_pos (c0.mpr l)]
      · rw [if_neg (fun z => l (c1.mp z))]; split <;> rfl
    · by_cases d1 : (d.toInt - b.toInt / n.toInt) % hh.toInt = 0
      · have l := fun z => (show ¬ (n.toInt * d.toInt - b.toInt < 0 ∨ ¬ (n.toInt * d.toInt - b.toInt) % (n.toInt * hh.toInt) = 0) from fun z => by
          rcases L.mp z with w | w | w
          · exact w hb0
          · exact d0 w
          · exact w d1) z
        have l0 : ¬ n.toInt * d.toInt - b.toInt < 0 := fun z => l (Or.inl z)
        have l1 : (n.toInt * d.toInt - b.toInt) % (n.toInt * hh.toInt) = 0 := Classical.byContradiction fun z => l (Or.inr z)
        rw [if_neg (fun z => l0 (c0.mp z)), if_pos (c1.mpr l1), if_pos (c3.mpr d1), if_pos (c4.mpr (by omega))]
        refine Int32.toInt_inj.mp ?_
        rw [idiv_toInt (by omega) (by omega), idiv_toInt (by omega) h1.1, ev, ek, ed]
        exact div_val hn.1 h1.1 hb0
      · have l := L.mpr (Or.inr (Or.inr d1))
        rw [if_neg (fun z => d1 (c3.mp z))]
        rcases l with l | l
        · rw [if_pos (c0.mpr l)]
        · rw [if_neg (fun z => l (c1.mp z))]; split <;> rfl
  · have l := L.mpr (Or.inl hb0)
    rw [if_neg (fun z => hb0 (c2.mp z))]
    rcases l with l | l
    · rw [if_pos (c0.mpr l)]
    · rw [if_neg (fun z => l (c1.mp z))]; split <;> rfl
section L8
variable {N : Int} {σ : MS × MS} {μ : MS}
theorem e_evo (h : RM N σ μ) (hq : ∀ q : Int32, 0 ≤ q.toInt → q.toInt < (ga μ 0 0).toInt → ga (own σ) 17 q = f_X6_balanceOf μ q) {p n d : Int32} (hp : 0 ≤ p.toInt ∧ p.toInt < (ga μ 0 0).toInt) (hn : 1 ≤ n.toInt ∧ n.toInt ≤ 99) (hd : 0 ≤ d.toInt ∧ d.toInt ≤ 99) (hb : ¬ (f_X6_heads μ >>> (p &&& 31)) &&& 1 = 0) : f_X0_evenOf σ p n d = f_X6_evenPays μ n d p ∧ -1 ≤ (f_X6_evenPays μ n d p).toInt ∧ (f_X6_evenPays μ n d p).toInt ≤ 7000000 := by
  have hP := RL.p h
  have hh := bits_n6 (hd_rng (RL.s h)) (p := p) (by omega) hb
  have hb := bal_rng (RL.s h) (p := p) (by omega)
  have q := e_even (n := n) (d := d) (b := f_X6_balanceOf μ p) (hh := f_X6_bits (f_X6_heads μ)) hn hd hb hh
  simp only [f_X0_evenOf, f_X6_evenPays, hq p hp.1 hp.2, show f_X5_heads (ttb σ) = f_X6_heads μ from e_heads h.tt, bc_bits (hd_rng (RL.s h))]
  refine ⟨q, ?_⟩
  rw [← q]
  have m1 : n.toInt * d.toInt ≤ 99 * 99 := Int.mul_le_mul hn.2 hd.2 hd.1 (by omega)
  have m0 : 0 ≤ n.toInt * d.toInt := Int.mul_nonneg (by omega) hd.1
  have k0 : 1 * 1 ≤ n.toInt * (f_X6_bits (f_X6_heads μ)).toInt := Int.mul_le_mul hn.1 hh.1 (by omega) (by omega)
  have k1 : n.toInt * (f_X6_bits (f_X6_heads μ)).toInt ≤ 99 * 6 := Int.mul_le_mul hn.2 hh.2 (by omega) (by omega)
  have ev : (n * d - f_X6_balanceOf μ p).toInt = n.toInt * d.toInt - (f_X6_balanceOf μ p).toInt := i_sub (i_mul rfl rfl (by omega)) rfl (by omega)
  have ek : (n * f_X6_bits (f_X6_heads μ)).toInt = n.toInt * (f_X6_bits (f_X6_heads μ)).toInt := i_mul rfl rfl (by omega)
  split
  · rw [z_m1]; omega
  · rename_i c
    have c' := c_nlt c
    rw [z_0] at c'
    split
    · rw [idiv_toInt (by omega) (by omega)]
      have a1 := Int.ediv_nonneg (a := (n * d - f_X6_balanceOf μ p).toInt) (b := (n * f_X6_bits (f_X6_heads μ)).toInt) (by omega) (by omega)
      have a2 := Int.ediv_le_self (a := (n * d - f_X6_balanceOf μ p).toInt) (n * f_X6_bits (f_X6_heads μ)).toInt (by omega)
      omega
    · rw [z_m1]; omega
theorem e_din_L (h : RM N σ μ) (hq : ∀ q : Int32, 0 ≤ q.toInt → q.toInt < (ga μ 0 0).toInt → ga (own σ) 17 q = f_X6_balanceOf μ q) {n d : Int32} (hn : 1 ≤ n.toInt ∧ n.toInt ≤ 99) (hd : 0 ≤ d.toInt ∧ d.toInt ≤ 99) : ∀ (k : Nat) (a b : Int32), 0 ≤ b.toInt → b.toInt ≤ 6 → -1 ≤ a.toInt → a.toInt ≤ 7000000 * b.toInt → f_X0_dinnersFor_L17 σ n d k a b = f_X6_evenIn_L13 μ n d k a b := by
  intro k
  induction k with
  | zero => intro a b _ _ _ _; rfl
  | succ k ih =>
    intro a b hb hb6 ha ha2
    have hP := RL.p h
    have hhas : ∀ u v, f_X0_has u v = f_X6_isIn μ u v := fun _ _ => rfl
    have en : gi (ttb σ) 1 = ga μ 0 0 := (RL.t h).n
    simp only [f_X0_dinnersFor_L17, f_X6_evenIn_L13, en, show f_X5_heads (ttb σ) = f_X6_heads μ from e_heads h.tt, hhas, ← neg_m1 ha]
    by_cases c : ga μ 0 0 ≤ b
    · simp only [if_pos c]
    · have c' := c_nle c
      have eb : (b + 1).toInt = b.toInt + 1 := inc1 (by omega) (by omega)
      simp only [if_neg c]
      by_cases c2 : a = -1
      · simp only [if_pos c2]
      · simp only [if_neg c2]
        have a0 : ¬ a.toInt = -1 := fun q => c2 (Int32.toInt_inj.mp (by rw [z_m1]; exact q))
        by_cases c3 : f_X6_isIn μ (f_X6_heads μ) b = 0
        · simp only [if_pos c3]; exact ih a (b + 1) (by omega) (by omega) ha (by omega)
        · simp only [if_neg c3]
          obtain ⟨e1, e2, e3⟩ := e_evo h hq (p := b) ⟨hb, c'⟩ hn hd (fun z => c3 ((isIn_0 _ _).mpr z))
          rw [e1]
          by_cases c4 : f_X6_evenPays μ n d b = -1
          · rw [if_pos c4, c4, if_neg (by decide)]
            exact ih (-1) (b + 1) (by omega) (by omega) (by rw [z_m1]; omega) (by rw [z_m1]; omega)
          · have b0 : ¬ (f_X6_evenPays μ n d b).toInt = -1 := fun q => c4 (Int32.toInt_inj.mp (by rw [z_m1]; exact q))
            rw [if_neg c4, if_pos (Int32.le_iff_toInt_le.mpr (by rw [z_0]; omega))]
            have es : (a + f_X6_evenPays μ n d b).toInt = a.toInt + (f_X6_evenPays μ n d b).toInt := i_add rfl rfl (by omega)
            exact ih _ (b + 1) (by omega) (by omega) (by omega) (by omega)
theorem e_eve_L (h : RM N σ μ) (hq : ∀ q : Int32, 0 ≤ q.toInt → q.toInt < (ga μ 0 0).toInt → ga (own σ) 17 q = f_X6_balanceOf μ q) {n : Int32} (hn : 1 ≤ n.toInt ∧ n.toInt ≤ 99) : ∀ (k : Nat) (d : Int32), 0 ≤ d.toInt → d.toInt ≤ 100 → 100 < d.toInt + k → f_X0_dinnersFor_L6 σ n k d = (σ, f_X6_evenIn_L2 μ n k d) ∧ -1 ≤ (f_X6_evenIn_L2 μ n k d).toInt ∧ (f_X6_evenIn_L2 μ n k d).toInt ≤ 99 ∧ (f_X6_evenIn_L2 μ n k d = -1 ∨ (f_X6_evenIn_L13 μ n (f_X6_evenIn_L2 μ n k d) 7 0 0).1 = f_X6_evenIn_L2 μ n k d) := by
  intro k
  induction k with
  | zero =>
    intro d hd hd1 hk
    omega
  | succ k ih =>
    intro d hd hd1 hk
    have q99 : ((99 : Int32) < d) ↔ ((100 : Int32) ≤ d) := by rw [Int32.lt_iff_toInt_lt, Int32.le_iff_toInt_le, show (99 : Int32).toInt = 99 from rfl, show (100 : Int32).toInt = 100 from rfl]; omega
    simp only [f_X0_dinnersFor_L6, f_X6_evenIn_L2, q99]
    by_cases c : (100 : Int32) ≤ d
    · simp only [if_pos c]; exact ⟨trivial, by rw [z_m1]; omega, by rw [z_m1]; omega, Or.inl trivial⟩
    · have c' := c_nle c
      rw [show (100 : Int32).toInt = 100 from rfl] at c'
      have eb : (d + 1).toInt = d.toInt + 1 := inc1 (by omega) (by omega)
      have e := e_din_L h hq hn (d := d) ⟨hd, by omega⟩ 7 0 0 (by rw [z_0]; omega) (by rw [z_0]; omega) (by rw [z_0]; omega) (by rw [z_0]; omega)
      have i1 := ih (d + 1) (by omega) (by omega) (by omega)
      simp only [if_neg c, e, i1.1]
      by_cases c2 : (f_X6_evenIn_L13 μ n d 7 0 0).1 = d
      · simp only [if_pos c2]; exact ⟨trivial, by omega, by omega, Or.inr c2⟩
      · simp only [if_neg c2]; exact ⟨trivial, i1.2⟩
theorem L13_m1 (n d : Int32) : ∀ (k : Nat) (b : Int32), (f_X6_evenIn_L13 μ n d k (-1) b).1 = -1 := by
  intro k b
  cases k with
  | zero => rfl
  | succ k =>
    rw [f_X6_evenIn_L13]
    split
    · rfl
    · rw [if_pos rfl]
theorem L13_ok (n d : Int32) (hS : SL μ 0) : ∀ (k : Nat) (a b : Int32), 0 ≤ b.toInt → (ga μ 0 0).toInt < b.toInt + k → ¬ (f_X6_evenIn_L13 μ n d k a b).1 = -1 → ∀ p : Int32, b.toInt ≤ p.toInt → p.toInt < (ga μ 0 0).toInt → ¬ f_X6_isIn μ (f_X6_heads μ) p = 0 → ¬ f_X6_evenPays μ n d p = -1 := by
  intro k
  induction k with
  | zero => intro a b _ h1 _ p h2 h3; omega
  | succ k ih =>
    intro a b hb hk hr p hp hp2 hi
    have hP := SL_p hS
    rw [f_X6_evenIn_L13] at hr
    by_cases c : ga μ 0 0 ≤ b
    · have := c_le c; omega
    · have c' := c_nle c
      have eb : (b + 1).toInt = b.toInt + 1 := inc1 (by omega) (by omega)
      rw [if_neg c] at hr
      by_cases c2 : a = -1
      · rw [if_pos c2, c2] at hr; exact absurd rfl hr
      · rw [if_neg c2] at hr
        dsimp only at hr
        by_cases z : b.toInt = p.toInt
        · have := Int32.toInt_inj.mp z
          subst this
          rw [if_neg hi] at hr
          intro e
          rw [if_pos e, L13_m1] at hr
          exact hr rfl
        · by_cases c3 : f_X6_isIn μ (f_X6_heads μ) b = 0
          · rw [if_pos c3] at hr
            exact ih a (b + 1) (by omega) (by omega) hr p (by omega) hp2 hi
          · rw [if_neg c3] at hr
            exact ih _ (b + 1) (by omega) (by omega) hr p (by omega) hp2 hi
theorem law_even (h : RL N σ μ) (n : Int32) : AG N (f_X0_even σ n) (f_X6_even μ n) μ := by
  simp only [f_X0_even, f_X6_even, isFr]
  by_cases a : f_X6_isFrom n.toInt64 1 99 = 0
  · simp only [if_pos a, if_neg (st_1 σ)]; exact ag_ref h 1
  · simp only [if_neg a, if_pos (st_0 σ)]
    have hn : 1 ≤ n.toInt ∧ n.toInt ≤ 99 := by
      rw [← isFr, isIn_v, Int32.toInt_toInt64] at a
      split at a
      · rename_i c; exact c
      · exact absurd rfl a
    obtain ⟨a1, a2, a3⟩ := e_lay (h.m 0)
    have q := e_eve_L a1 a3 hn 101 0 (by rw [z_0]; omega) (by rw [z_0]; omega) (by rw [z_0]; omega)
    have e1 : f_X0_dinnersFor (lsi σ 7 0) n = (f_X0_balances (lsi σ 7 0), f_X6_evenIn μ n) := q.1
    rw [e1]
    exact ag_nnR a1 rfl q.2.1
theorem law_evenBy (h : RL N σ μ) (n p : Int32) : AG N (f_X0_evenBy σ n p) (f_X6_evenBy μ n p) μ := by
  have hhas : ∀ u v, f_X0_has u v = f_X6_isIn μ u v := fun _ _ => rfl
  simp only [f_X0_evenBy, f_X6_evenBy, isFr, e_isPer h, hhas]
  by_cases a : f_X6_isFrom n.toInt64 1 99 = 0
  · simp only [if_pos a, if_neg (st_1 σ)]; exact ag_ref h 1
  · simp only [if_neg a]
    by_cases a2 : f_X6_isPerson μ p = 0
    · simp only [if_pos a2, if_neg (st_1 σ)]; exact ag_ref h 1
    · simp only [if_neg a2, if_pos (st_0 σ)]
      have hn : 1 ≤ n.toInt ∧ n.toInt ≤ 99 := by
        rw [← isFr, isIn_v, Int32.toInt_toInt64] at a
        split at a
        · rename_i c; exact c
        · exact absurd rfl a
      obtain ⟨b1, b2, b3⟩ := e_lay (h.m 0)
      have q := e_eve_L b1 b3 hn 101 0 (by rw [z_0]; omega) (by rw [z_0]; omega) (by rw [z_0]; omega)
      have e1 : f_X0_dinnersFor (lsi σ 7 0) n = (f_X0_balances (lsi σ 7 0), f_X6_evenIn μ n) := q.1
      have q2 : -1 ≤ (f_X6_evenIn μ n).toInt ∧ (f_X6_evenIn μ n).toInt ≤ 99 ∧ (f_X6_evenIn μ n = -1 ∨ (f_X6_evenIn_L13 μ n (f_X6_evenIn μ n) 7 0 0).1 = f_X6_evenIn μ n) := q.2
      have e2 : f_X5_heads (ttb (f_X0_balances (lsi σ 7 0))) = f_X6_heads μ := e_heads b1.tt
      rw [e1]
      dsimp only
      rw [e2]
      by_cases c : f_X6_evenIn μ n = -1
      · rw [if_pos c, c, if_neg (by decide)]
        have z := ag_nnR b1 (v := -1) (w := -1) rfl (by decide)
        exact z
      · have b0 : ¬ (f_X6_evenIn μ n).toInt = -1 := fun q => c (Int32.toInt_inj.mp (by rw [z_m1]; exact q))
        rw [if_neg c, if_pos (Int32.le_iff_toInt_le.mpr (by rw [z_0]; omega))]
        have hpp := isPer a2
        have hP := h.p
        by_cases c3 : f_X6_isIn μ (f_X6_heads μ) p = 0
        · simp only [if_pos c3]
          have z := ag_nnR b1 (v := 0) (w := 0) rfl (by decide)
          unfold f_X6_orNone at z
          rw [if_neg (by decide)] at z
          exact z
        · simp only [if_neg c3]
          obtain ⟨e3, e4, -⟩ := e_evo b1 b3 (p := p) (d := f_X6_evenIn μ n) hpp hn (by omega) (fun z => c3 ((isIn_0 _ _).mpr z))
          rw [e3]
          have ne : ¬ f_X6_evenPays μ n (f_X6_evenIn μ n) p = -1 := L13_ok n (f_X6_evenIn μ n) h.s 7 0 0 (by rw [z_0]; omega) (by rw [z_0]; omega) (by rw [q2.2.2.resolve_left c]; exact c) p (by rw [z_0]; omega) hpp.2 c3
          have z := ag_nnR b1 (v := f_X6_evenPays μ n (f_X6_evenIn μ n) p) rfl e4
          unfold f_X6_orNone at z
          rw [if_neg ne] at z
          exact z
end L8
