/-! CALL BY CALL: both answer alike, and tell the same behind it: the simple calls -/
set_option maxRecDepth 100000
/-- LetMe's own numbers against the reference's -/
def RO (ω μ : MS) : Prop := gi ω 7 = gi μ 2 ∧ (gl ω 8 = gl μ 3 ∧ gl ω 9 = gl μ 4) ∧ (gi ω 2 = gi μ 10 ∧ (0 ≤ (gi μ 10).toInt ∧ (gi μ 10).toInt ≤ 900) ∧ ∀ j : Int32, 0 ≤ j.toInt → j.toInt < (gi μ 10).toInt → ga ω 1 j = ga μ 8 j) ∧ (gi ω 3 = gi μ 16 ∧ gi ω 4 = gi μ 17) ∧ (gi ω 12 = gi μ 34 ∧ ga ω 16 0 = 0) ∧ (gi ω 22 = gi μ 33 ∧ ∀ j : Int32, (0 ≤ j.toInt ∧ j.toInt ≤ 4) → ¬ gi μ 33 = 0 → ga ω 21 j = ga μ 32 j)
/-- the dishes have a price -/
def DP0 (μ : MS) : Prop := ∀ d : Int32, (0 ≤ d.toInt ∧ d.toInt < (ga μ 0 2).toInt) → 1 ≤ (ga μ 0 (60 + 2 * d)).toInt
def RL (N : Int) (σ : MS × MS) (μ : MS) : Prop := RT (ttb σ) μ ∧ (SL μ 0 ∧ DP0 μ ∧ PB μ N ∧ N ≤ 900000) ∧ RO (own σ) μ
/-- what most calls leave of the reference: trays, names, marks, the year -/
def KE (μ u : MS) : Prop := (∀ k i, (k = 5 ∨ k = 6) → ga u k i = ga μ k i) ∧ (∀ k i, gb u k i = gb μ k i) ∧ (∀ j : Int32, (j.toInt = 9 ∨ 128 ≤ j.toInt) → ga u 0 j = ga μ 0 j)
theorem KE.rf {μ : MS} : KE μ μ := ⟨fun _ _ _ => rfl, fun _ _ => rfl, fun _ _ => rfl⟩
theorem KE.tr {μ u w : MS} (h : KE μ u) (h2 : KE u w) : KE μ w := ⟨fun k i q => (h2.1 k i q).trans (h.1 k i q), fun k i => (h2.2.1 k i).trans (h.2.1 k i), fun j q => (h2.2.2 j q).trans (h.2.2 j q)⟩
theorem KE.of {μ u : MS} (h : KP μ u) : KE μ u := ⟨fun k i q => h.2.2.1 k i (by omega) (by simp), fun k i => by
  by_cases e : k = 1
  · subst e
    by_cases e0 : 0 ≤ i.toInt
    · exact h.2.2.2.2.2 i e0 (fun z => z)
    · have e1 : i.toNatClampNeg = (0 : Int32).toNatClampNeg := by show i.toInt.toNat = (0 : Int32).toInt.toNat; rw [z_0]; omega
      have := h.2.2.2.2.2 0 (by rw [z_0]; omega) (fun z => z)
      unfold gb at this ⊢
      rw [e1]; exact this
  · exact h.2.2.2.2.1 k i e, fun j q => h.2.2.2.1 j (by omega) (by omega)⟩
theorem KE_si {μ : MS} {k : Nat} {v : Int32} : KE μ (si μ k v) := KE.rf
theorem KE_sl {μ : MS} {k : Nat} {v : Int64} : KE μ (sl μ k v) := KE.rf
theorem KE_sa {μ : MS} {k : Nat} {i v : Int32} (hk : k ≠ 0 ∧ k ≠ 5 ∧ k ≠ 6) : KE μ (sa μ k i v) := ⟨fun _ _ q => ga_sa_k (by omega), fun _ _ => rfl, fun _ _ => ga_sa_k (by omega)⟩
theorem KE_s0 {μ : MS} {i v : Int32} {X : Int} (hi : i.toInt = X) (h0 : 0 ≤ X ∧ X < 128 ∧ ¬ X = 9) : KE μ (sa μ 0 i v) := ⟨fun _ _ q => ga_sa_k (by omega), fun _ _ => rfl, fun j q => at_ne (by omega) (by omega) (by omega)⟩
/-- both answer alike and tell the same -/
def AG (N : Int) (x : (MS × MS) × Int32) (y : MS × Int32) (μ : MS) : Prop := x.2 = y.2 ∧ RL N x.1 y.1 ∧ KE μ y.1
theorem si_si {τ : MS} {k : Nat} {a b : Int32} : si (si τ k a) k b = si τ k b := by
  unfold si
  refine Prod.ext ?_ rfl
  funext j
  simp only [upd]
  split <;> rfl
section L1
variable {N : Int} {σ : MS × MS} {μ : MS}
theorem RL.p (h : RL N σ μ) : 0 ≤ (ga μ 0 0).toInt ∧ (ga μ 0 0).toInt ≤ 6 := SL_p h.2.1.1
theorem RL.t (h : RL N σ μ) : RT (ttb σ) μ := h.1
theorem RL.s (h : RL N σ μ) : SL μ 0 := h.2.1.1
theorem RL.b (h : RL N σ μ) : PB μ N := h.2.1.2.2.1
theorem RL.nN (h : RL N σ μ) : N ≤ 1000000 := by have := h.2.1.2.2.2; omega
theorem RO_st {ω : MS} {v : Int32} (h : RO ω μ) : RO (si ω 7 v) (si μ 2 v) := ⟨rfl, h.2.1, h.2.2.1, h.2.2.2.1, h.2.2.2.2.1, h.2.2.2.2.2⟩
theorem RL.st (h : RL N σ μ) (v : Int32) : RL N (lsi σ 7 v) (si μ 2 v) := ⟨h.1, h.2.1, RO_st h.2.2⟩
theorem st_0 (σ : MS × MS) : gi (own (lsi σ 7 0)) 7 ≤ 0 := by show (0 : Int32) ≤ 0; decide
theorem st_1 (σ : MS × MS) : ¬ gi (own (lsi σ 7 1)) 7 ≤ 0 := by show ¬ (1 : Int32) ≤ 0; decide
theorem st_4 (σ : MS × MS) : ¬ gi (own (lsi σ 7 4)) 7 ≤ 0 := by show ¬ (4 : Int32) ≤ 0; decide
theorem st_6 (σ : MS × MS) : ¬ gi (own (lsi σ 7 6)) 7 ≤ 0 := by show ¬ (6 : Int32) ≤ 0; decide
theorem st_7 (σ : MS × MS) : ¬ gi (own (lsi σ 7 7)) 7 ≤ 0 := by show ¬ (7 : Int32) ≤ 0; decide
theorem se_0 (σ : MS × MS) : gi (own (lsi σ 7 0)) 7 = 0 := rfl
theorem se_1 (σ : MS × MS) : ¬ gi (own (lsi σ 7 1)) 7 = 0 := by show ¬ (1 : Int32) = 0; decide
theorem se_6 (σ : MS × MS) : ¬ gi (own (lsi σ 7 6)) 7 = 0 := by show ¬ (6 : Int32) = 0; decide
theorem se_7 (σ : MS × MS) : ¬ gi (own (lsi σ 7 7)) 7 = 0 := by show ¬ (7 : Int32) = 0; decide
theorem ag_ref (h : RL N σ μ) (w : Int32) : AG N (lsi σ 7 w, -1) (f_X6_refuse μ w) μ := ⟨rfl, h.st w, KE_si⟩
theorem ag_giv (h : RL N σ μ) {v w : Int32} (e : v = w) : AG N (lsi σ 7 0, v) (f_X6_gives μ w) μ := ⟨e, h.st 0, KE_si⟩
theorem ag_is0 (h : RL N σ μ) {w : Int32} (hw : ¬ w = 0) : AG N (lsi σ 7 w, 0) (f_X6_is μ w) μ := by
  unfold f_X6_is
  dsimp only
  rw [if_neg hw]
  exact ⟨rfl, h.st w, KE_si⟩
theorem ag_is1 (h : RL N σ μ) : AG N (lsi σ 7 0, 1) (f_X6_is μ 0) μ := ⟨rfl, h.st 0, KE_si⟩
theorem ag_non (h : RL N σ μ) {v w : Int32} (e : v = w) (hv : -1 ≤ w.toInt) : AG N (f_X0_answer σ v) (f_X6_orNone μ w) μ := by
  subst e
  unfold f_X0_answer f_X6_orNone f_X6_refuse f_X6_gives
  dsimp only
  by_cases c : v = -1
  · rw [if_pos c, c]
    exact ⟨rfl, h.st 6, KE_si⟩
  · have : ¬ v.toInt = -1 := fun q => c (Int32.toInt_inj.mp (by rw [z_m1]; exact q))
    rw [if_neg c, if_pos (Int32.le_iff_toInt_le.mpr (by rw [z_0]; omega))]
    exact ⟨rfl, h.st 0, KE_si⟩
/-- behind a first setting of the status -/
theorem ag_nn (h : RL N σ μ) {v w u : Int32} (e : v = w) (hv : -1 ≤ w.toInt) : AG N (f_X0_answer (lsi σ 7 u) v) (f_X6_orNone μ w) μ := by
  have q := ag_non h e hv
  exact ⟨q.1, by
    have e2 : (f_X0_answer (lsi σ 7 u) v).1 = (f_X0_answer σ v).1 := by
      unfold f_X0_answer
      show (si (si σ.1 7 u) 7 _, σ.2) = (si σ.1 7 _, σ.2)
      rw [si_si]
    rw [e2]; exact q.2.1, q.2.2⟩
theorem isIn_v (a b c : Int64) : f_X0_isIn a b c = if b.toInt ≤ a.toInt ∧ a.toInt ≤ c.toInt then 1 else 0 := by
  unfold f_X0_isIn
  have h1 := lg_lt0 a b
  have h2 := lg_gt0 a c
  by_cases c1 : lg_cmp a b < 0
  · rw [if_pos c1, if_neg (fun q => by have := h1.mp c1; omega)]
  · rw [if_neg c1]
    by_cases c2 : 0 < lg_cmp a c
    · rw [if_pos c2, if_neg (fun q => by have := h2.mp c2; omega)]
    · rw [if_neg c2, if_pos ⟨Int.not_lt.mp (fun q => c1 (h1.mpr q)), Int.not_lt.mp (fun q => c2 (h2.mpr q))⟩]
theorem isFr (a b c : Int64) : f_X0_isIn a b c = f_X6_isFrom a b c := Eq.trans (rfl : f_X0_isIn a b c = f_X6_isFrom a b c) rfl
theorem e_isPer (h : RL N σ μ) (p : Int32) : f_X0_isPerson σ p = f_X6_isPerson μ p := by
  have hp := h.p
  unfold f_X0_isPerson f_X6_isPerson
  dsimp only
  rw [isIn_v, h.t.n, Int32.toInt_toInt64, Int32.toInt_toInt64, i_sub rfl z_1 (by omega), show (0 : Int64).toInt = 0 from rfl]
  by_cases c1 : p < 0
  · have := c_lt c1; rw [z_0] at this
    rw [if_pos c1, if_neg (by omega)]
  · have := c_nlt c1; rw [z_0] at this
    rw [if_neg c1]
    by_cases c2 : ga μ 0 0 ≤ p
    · have := c_le c2
      rw [if_pos c2, if_neg (by omega)]
    · have := c_nle c2
      rw [if_neg c2, if_pos (by omega)]
theorem isPer {p : Int32} (h : ¬ f_X6_isPerson μ p = 0) : 0 ≤ p.toInt ∧ p.toInt < (ga μ 0 0).toInt := by
  unfold f_X6_isPerson at h
  split at h
  · exact absurd rfl h
  · rename_i c1
    split at h
    · exact absurd rfl h
    · rename_i c2
      have a := c_nlt c1
      have b := c_nle c2
      rw [z_0] at a
      omega
theorem e_two (h : RL N σ μ) (p q : Int32) : f_X0_areTwo σ p q = f_X6_areTwo μ p q := by
  unfold f_X0_areTwo f_X6_areTwo
  simp only [e_isPer h]
theorem areTwo {p q : Int32} (h : ¬ f_X6_areTwo μ p q = 0) : (0 ≤ p.toInt ∧ p.toInt < (ga μ 0 0).toInt) ∧ (0 ≤ q.toInt ∧ q.toInt < (ga μ 0 0).toInt) ∧ ¬ p = q := by
  unfold f_X6_areTwo at h
  dsimp only at h
  split at h
  · exact absurd rfl h
  · rename_i c1
    split at h
    · exact absurd rfl h
    · rename_i c2
      split at h
      · exact absurd rfl h
      · rename_i c3
        exact ⟨isPer c1, isPer c2, c3⟩
theorem e_rng3 (s : Int32) (k : Int64) (m : Int32) (hk : k.toInt = m.toInt) : f_X0_isIn s.toInt64 0 k = if s < 0 then 0 else if m < s then 0 else 1 := by
  rw [isIn_v, Int32.toInt_toInt64, hk, show (0 : Int64).toInt = 0 from rfl]
  by_cases c1 : s < 0
  · have := c_lt c1; rw [z_0] at this
    rw [if_pos c1, if_neg (by omega)]
  · have := c_nlt c1; rw [z_0] at this
    rw [if_neg c1]
    by_cases c2 : m < s
    · have := c_lt c2
      rw [if_pos c2, if_neg (by omega)]
    · have := c_nlt c2
      rw [if_neg c2, if_pos (by omega)]
theorem e_spl (s : Int32) : f_X0_isSplit s = f_X6_isSplit s := e_rng3 s 2 2 rfl
theorem law_status (h : RL N σ μ) : f_X0_status σ = f_X6_status μ := h.2.2.1
theorem law_top (h : RL N σ μ) : f_X0_top σ = f_X6_top μ := h.2.2.2.1.1
theorem law_bottom (h : RL N σ μ) : f_X0_bottom σ = f_X6_bottom μ := h.2.2.2.1.2
theorem law_fault (h : RL N σ μ) (k : Int32) : f_X0_fault σ k = f_X6_fault μ k := by
  unfold f_X0_fault f_X6_fault
  rw [h.2.2.2.2.2.1.1, h.2.2.2.2.2.1.2]
theorem law_eaten (h : RL N σ μ) (p : Int32) : AG N (f_X0_eaten σ p) (f_X6_eaten μ p) μ := by
  simp only [f_X0_eaten, f_X6_eaten, e_isPer h]
  by_cases a : f_X6_isPerson μ p = 0
  · simp only [if_pos a, if_neg (st_1 σ)]; exact ag_ref h 1
  · simp only [if_neg a, if_pos (st_0 σ)]; exact ag_giv h (e_eaten h.t h.s p)
theorem law_due (h : RL N σ μ) (p s : Int32) : AG N (f_X0_due σ p s) (f_X6_due μ p s) μ := by
  simp only [f_X0_due, f_X6_due, e_isPer h, e_spl]
  by_cases a : f_X6_isPerson μ p = 0
  · simp only [if_pos a, if_neg (st_1 σ)]; exact ag_ref h 1
  · simp only [if_neg a]
    by_cases b : f_X6_isSplit s = 0
    · simp only [if_pos b, if_neg (st_1 σ)]; exact ag_ref h 1
    · simp only [if_neg b, if_pos (st_0 σ)]; exact ag_giv h (e_due h.t h.s p s)
theorem e_unf_L (hT : RT (ttb σ) μ) (hS : SL μ 0) (s : Int32) : ∀ (n : Nat) (a b : Int32), f_X0_unfairOf_L4 σ s n a b = f_X6_unfairBy_L4 μ s n a b := by
  intro n
  induction n with
  | zero => intro a b; rfl
  | succ n ih => intro a b; simp only [f_X0_unfairOf_L4, f_X6_unfairBy_L4, hT.n, e_due hT hS, e_eaten hT hS, ih]
theorem e_unf (hT : RT (ttb σ) μ) (hS : SL μ 0) (s : Int32) : f_X0_unfairOf σ s = f_X6_unfairBy μ s := by simp only [f_X0_unfairOf, f_X6_unfairBy, e_unf_L hT hS s]
theorem law_unfair (h : RL N σ μ) (s : Int32) : AG N (f_X0_unfair σ s) (f_X6_unfair μ s) μ := by
  simp only [f_X0_unfair, f_X6_unfair, e_spl]
  by_cases a : f_X6_isSplit s = 0
  · simp only [if_pos a, if_neg (st_1 σ)]; exact ag_ref h 1
  · simp only [if_neg a, if_pos (st_0 σ)]; exact ag_giv h (e_unf (σ := lsi σ 7 0) h.t h.s s)
theorem e_fai_L (h : RL N σ μ) : ∀ (n : Nat) (a b : Int32), (b.toInt ≤ 1000) → (0 ≤ b.toInt) → f_X0_fairest_L9 (lsi σ 7 0) n a b = f_X6_fairest_L4 μ n a b := by
  intro n
  induction n with
  | zero => intro a b _ _; rfl
  | succ n ih =>
    intro a b hb h0
    have q : (2 < b) ↔ (3 ≤ b) := by rw [Int32.lt_iff_toInt_lt, Int32.le_iff_toInt_le, z_2, z_3]; omega
    have u : ∀ x, f_X0_unfairOf (lsi σ 7 0) x = f_X6_unfairBy μ x := fun x => e_unf (σ := lsi σ 7 0) h.t h.s x
    simp only [f_X0_fairest_L9, f_X6_fairest_L4, q, u]
    by_cases c : 3 ≤ b
    · simp only [if_pos c]
    · have c' := c_nle c
      rw [z_3] at c'
      have eb : (b + 1).toInt = b.toInt + 1 := inc1 (by omega) (by omega)
      simp only [if_neg c, ih _ (b + 1) (by omega) (by omega)]
theorem law_fairest (h : RL N σ μ) : AG N (f_X0_fairest σ) (f_X6_fairest μ) μ := by
  simp only [f_X0_fairest, f_X6_fairest, e_fai_L h _ _ _ (show (1 : Int32).toInt ≤ 1000 by decide) (show 0 ≤ (1 : Int32).toInt by decide)]
  exact ag_giv h rfl
theorem law_dearer (h : RL N σ μ) (p s o : Int32) : AG N (f_X0_dearer σ p s o) (f_X6_dearer μ p s o) μ := by
  simp only [f_X0_dearer, f_X6_dearer, e_isPer h, e_spl]
  by_cases a : f_X6_isPerson μ p = 0
  · simp only [if_pos a, if_neg (st_1 σ)]; exact ag_ref h 1
  · simp only [if_neg a]
    by_cases b : f_X6_isSplit s = 0
    · simp only [if_pos b, if_neg (st_1 σ)]; exact ag_ref h 1
    · simp only [if_neg b]
      by_cases c : f_X6_isSplit o = 0
      · simp only [if_pos c, if_neg (st_1 σ)]; exact ag_ref h 1
      · simp only [if_neg c, if_pos (st_0 σ)]
        exact ag_giv h (w := f_X6_dueBy μ p s - f_X6_dueBy μ p o) (by
          show f_X5_due (ttb σ) p s - f_X5_due (ttb σ) p o = _
          rw [e_due h.t h.s, e_due h.t h.s])
theorem e_har_L (hT : RT (ttb σ) μ) (hS : SL μ 0) (s : Int32) : ∀ (n : Nat) (a b : Int32), 0 ≤ b.toInt → -1 ≤ a.toInt → f_X0_hardest_L29 σ s n a b = f_X6_hardest_L17 μ s n a b ∧ -1 ≤ (f_X6_hardest_L17 μ s n a b).1.toInt := by
  intro n
  induction n with
  | zero => intro a b _ ha; exact ⟨rfl, ha⟩
  | succ n ih =>
    intro a b hb ha
    have hp := SL_p hS
    simp only [f_X0_hardest_L29, f_X6_hardest_L17, hT.n, e_due hT hS, ← neg_m1 ha]
    by_cases c : ga μ 0 0 ≤ b
    · simp only [if_pos c]; exact ⟨trivial, ha⟩
    · have c' := c_nle c
      have eb : (b + 1).toInt = b.toInt + 1 := inc1 (by omega) (by omega)
      have i1 := ih a (b + 1) (by omega) ha
      have i2 := ih b (b + 1) (by omega) (by omega)
      simp only [if_neg c, i1.1, i2.1]
      refine ⟨trivial, ?_⟩
      repeat' split
      all_goals first | exact i1.2 | exact i2.2
theorem law_hardest (h : RL N σ μ) (s : Int32) : AG N (f_X0_hardest σ s) (f_X6_hardest μ s) μ := by
  simp only [f_X0_hardest, f_X6_hardest, e_spl]
  by_cases a : f_X6_isSplit s = 0
  · simp only [if_pos a, if_neg (st_1 σ)]; exact ag_ref h 1
  · simp only [if_neg a, if_pos (st_0 σ)]
    have q := e_har_L (σ := lsi σ 7 0) h.t h.s s 7 (-1) 0 (by rw [z_0]; omega) (by rw [z_m1]; omega)
    exact ag_nn h (congrArg Prod.fst q.1) q.2
theorem e_pba_L (hT : RT (ttb σ) μ) (hS : SL μ 0) : ∀ (n : Nat) (a b : Int32), 0 ≤ b.toInt → f_X0_paidByAll_L4 σ n a b = f_X6_paidByAll_L4 μ n a b := by
  intro n
  induction n with
  | zero => intro a b _; rfl
  | succ n ih =>
    intro a b hb
    have hp := SL_p hS
    simp only [f_X0_paidByAll_L4, f_X6_paidByAll_L4, hT.n]
    by_cases c : ga μ 0 0 ≤ b
    · simp only [if_pos c]
    · have c' := c_nle c
      have eb : (b + 1).toInt = b.toInt + 1 := inc1 (by omega) (by omega)
      simp only [if_neg c, (hT.p hb c').2.2.2.2.2.1, ih _ (b + 1) (by omega)]
theorem e_pba (hT : RT (ttb σ) μ) (hS : SL μ 0) : f_X0_paidByAll σ = f_X6_paidByAll μ := by simp only [f_X0_paidByAll, f_X6_paidByAll, e_pba_L hT hS _ _ _ (show 0 ≤ (0 : Int32).toInt by decide)]
theorem law_padded (h : RL N σ μ) (p : Int32) : AG N (f_X0_padded σ p) (f_X6_padded μ p) μ := by
  simp only [f_X0_padded, f_X6_padded, isFr]
  by_cases a : f_X6_isFrom p.toInt64 0 99999 = 0
  · simp only [if_pos a, if_neg (st_1 σ)]; exact ag_ref h 1
  · simp only [if_neg a, if_pos (st_0 σ)]; exact ag_giv h (by rw [← e_bill h.t h.s]; rfl)
theorem law_split (h : RL N σ μ) (s : Int32) : AG N (f_X0_split σ s) (f_X6_split μ s) μ := by
  simp only [f_X0_split, f_X6_split, e_spl]
  by_cases a : f_X6_isSplit s = 0
  · simp only [if_pos a, if_neg (se_1 σ)]; exact ag_is0 h (by decide)
  · simp only [if_neg a, if_pos (se_0 σ)]
    have hs : 0 ≤ s.toInt ∧ s.toInt ≤ 2 := by
      unfold f_X6_isSplit at a
      split at a
      · exact absurd rfl a
      · rename_i c1
        split at a
        · exact absurd rfl a
        · rename_i c2
          have q1 := c_nlt c1
          have q2 := c_nlt c2
          rw [z_0] at q1; rw [z_2] at q2
          omega
    have g : RL N (tsi σ 4 s) (sa μ 0 3 s) := ⟨RT_num (k := 4) (i := 3) h.t h.s (by decide), ⟨SL_sa z_3 (by omega) (by omega) (fun _ _ => by unfold CV; omega) h.s, fun d hd => by
      rw [at_ne (by decide) (by decide) (by decide)] at hd
      have e := di_i (d := d) (by have := SL_d h.s; omega)
      rw [at_ne (by rw [z_3]; omega) (by decide) (by omega)]
      exact h.2.1.2.1 d hd, PB_ne h.b (by decide) (by decide), h.2.1.2.2.2⟩, h.2.2⟩
    have q := ag_is1 g
    exact ⟨rfl, q.2.1, (KE_s0 z_3 (by omega)).tr q.2.2⟩
theorem law_law (h : RL N σ μ) (s : Int32) : AG N (f_X0_law σ s) (f_X6_law μ s) μ := by
  simp only [f_X0_law, f_X6_law, f_X0_isLaw, isFr]
  by_cases a : f_X6_isFrom s.toInt64 0 3 = 0
  · simp only [if_pos a, if_neg (se_1 σ)]; exact ag_is0 h (by decide)
  · simp only [if_neg a, if_pos (se_0 σ)]
    have hs : 0 ≤ s.toInt ∧ s.toInt ≤ 3 := by
      rw [← isFr, isIn_v, Int32.toInt_toInt64] at a
      split at a
      · rename_i c; exact c
      · exact absurd rfl a
    have g : RL N (tsi σ 5 s) (sa μ 0 4 s) := ⟨RT_num (k := 5) (i := 4) h.t h.s (by decide), ⟨SL_sa z_4 (by omega) (by omega) (fun _ _ => by unfold CV; omega) h.s, fun d hd => by
      rw [at_ne (by decide) (by decide) (by decide)] at hd
      have e := di_i (d := d) (by have := SL_d h.s; omega)
      rw [at_ne (by rw [z_4]; omega) (by decide) (by omega)]
      exact h.2.1.2.1 d hd, PB_ne h.b (by decide) (by decide), h.2.1.2.2.2⟩, h.2.2⟩
    have q := ag_is1 g
    exact ⟨rfl, q.2.1, (KE_s0 z_4 (by omega)).tr q.2.2⟩
theorem turn_rng_L (hS : SL μ 0) (l : Int32) : ∀ (n : Nat) (a b : Int32), 0 ≤ b.toInt → -1 ≤ a.toInt → -1 ≤ (f_X6_turnOf_L4 μ l n a b).1.toInt := by
  intro n
  induction n with
  | zero => intro a b _ ha; exact ha
  | succ n ih =>
    intro a b hb ha
    have hp := SL_p hS
    rw [f_X6_turnOf_L4]
    by_cases c : ga μ 0 0 ≤ b
    · rw [if_pos c]; exact ha
    · rw [if_neg c]
      have c' := c_nle c
      have eb : (b + 1).toInt = b.toInt + 1 := inc1 (by omega) (by omega)
      have i1 := ih a (b + 1) (by omega) ha
      have i2 := ih b (b + 1) (by omega) (by omega)
      dsimp only
      repeat' split
      all_goals first | exact i1 | exact i2
theorem turn_rng (hS : SL μ 0) (l : Int32) : -1 ≤ (f_X6_turnOf μ l).toInt := turn_rng_L hS l _ _ _ (by rw [z_0]; omega) (by rw [z_m1]; omega)
theorem law_turn (h : RL N σ μ) : AG N (f_X0_turn σ) (f_X6_turn μ) μ := by
  simp only [f_X0_turn, f_X6_turn, h.t.l]
  exact ag_non h (e_turn h.t h.s h.b h.nN _) (turn_rng h.s _)
theorem law_turnBy (h : RL N σ μ) (l : Int32) : AG N (f_X0_turnBy σ l) (f_X6_turnBy μ l) μ := by
  simp only [f_X0_turnBy, f_X6_turnBy, f_X0_isLaw, isFr]
  by_cases a : f_X6_isFrom l.toInt64 0 3 = 0
  · simp only [if_pos a, if_neg (st_1 σ)]; exact ag_ref h 1
  · simp only [if_neg a, if_pos (st_0 σ)]; exact ag_nn h (e_turn h.t h.s h.b h.nN _) (turn_rng h.s _)
end L1
