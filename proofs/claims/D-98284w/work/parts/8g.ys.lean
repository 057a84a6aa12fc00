/-! TEXTS: a year's step, row by row -/
set_option maxRecDepth 100000
theorem ix_r (k : Nat) : (2130 : Int32) + (6 : Int32) * nI k = nI (2130 + 6 * k) := by
  rw [show (6 : Int32) * nI k = nI (6 * k) from nI_mul 6 k]
  exact nI_add 2130 _
theorem zr_L (a b c : Int32) {r : Nat} (hr : r < 90000) : ∀ (n x : Nat) (μ : MS), x ≤ 6 → 6 < n + x → (f_X6_yearStep_L159 a b (nI r) c n (nI x) μ).2.1 = μ.1 ∧ (∀ k, ¬ k = 0 → (f_X6_yearStep_L159 a b (nI r) c n (nI x) μ).2.2.2.1 k = μ.2.2.1 k) ∧ (f_X6_yearStep_L159 a b (nI r) c n (nI x) μ).2.2.2.2 = μ.2.2.2 ∧ ∀ j, j < 100000 → nt (f_X6_yearStep_L159 a b (nI r) c n (nI x) μ).2 j = if r + x ≤ j ∧ j < r + 6 then 0 else nt μ j := by
  intro n
  induction n with
  | zero => intro x μ h1 h2; omega
  | succ n ih =>
    intro x μ h1 h2
    rw [f_X6_yearStep_L159]
    by_cases c0 : x = 6
    · subst c0
      rw [if_pos (show (6 : Int32) ≤ nI 6 by decide)]
      exact ⟨rfl, fun _ _ => rfl, rfl, fun j hj => by rw [if_neg (by omega)]⟩
    · rw [if_neg (show ¬ (6 : Int32) ≤ nI x from nI_ge (a := x) (b := 6) (by omega) (by omega))]
      dsimp only
      rw [nI_1, nI_add]
      obtain ⟨a1, a3, a4, a5⟩ := ih (x + 1) (sa μ 0 (nI (r + x)) 0) (by omega) (by omega)
      refine ⟨a1, fun k hk => (a3 k hk).trans ?_, a4, fun j hj => ?_⟩
      · show va_up μ.2.2.1 0 _ k = μ.2.2.1 k
        exact if_neg hk
      · rw [a5 j hj, nt_sa hj (by omega)]
        repeat' split
        all_goals first | rfl | (exfalso; omega)
/-- a step's row, laid ahead of its words -/
def hdM (μ : MS) (key : Int32) (k : Nat) (o t : Int32) : MS := sa (f_X6_yearStep_L159 key (nI k) (nI (2130 + 6 * k)) o 6 1 (sa (si μ 23 (gi μ 23 + t)) 0 (nI (2130 + 6 * k)) key)).2 0 2009 (ga (f_X6_yearStep_L159 key (nI k) (nI (2130 + 6 * k)) o 6 1 (sa (si μ 23 (gi μ 23 + t)) 0 (nI (2130 + 6 * k)) key)).2 0 2009 + 1)
theorem hd_e {μ : MS} {key o t : Int32} {k : Nat} (hk : k < 1000) (h9 : nt μ 2009 = nI k) : (∀ j, gi (hdM μ key k o t) j = if j = 23 then gi μ 23 + t else gi μ j) ∧ (∀ j, ¬ j = 0 → (hdM μ key k o t).2.2.1 j = μ.2.2.1 j) ∧ (hdM μ key k o t).2.2.2 = μ.2.2.2 ∧ ∀ j, j < 100000 → nt (hdM μ key k o t) j = if j = 2009 then nI (k + 1) else if j = 2130 + 6 * k then key else if 2130 + 6 * k < j ∧ j < 2130 + 6 * k + 6 then 0 else nt μ j := by
  obtain ⟨a1, a3, a4, a5⟩ := zr_L key (nI k) o (r := 2130 + 6 * k) (by omega) 6 1 (sa (si μ 23 (gi μ 23 + t)) 0 (nI (2130 + 6 * k)) key) (by omega) (by omega)
  have n0 : ∀ j, j < 100000 → nt (f_X6_yearStep_L159 key (nI k) (nI (2130 + 6 * k)) o 6 1 (sa (si μ 23 (gi μ 23 + t)) 0 (nI (2130 + 6 * k)) key)).2 j = if 2130 + 6 * k + 1 ≤ j ∧ j < 2130 + 6 * k + 6 then 0 else nt (sa (si μ 23 (gi μ 23 + t)) 0 (nI (2130 + 6 * k)) key) j := a5
  have e9 : ga (f_X6_yearStep_L159 key (nI k) (nI (2130 + 6 * k)) o 6 1 (sa (si μ 23 (gi μ 23 + t)) 0 (nI (2130 + 6 * k)) key)).2 0 2009 = nI k := by
    refine (n0 2009 (by omega)).trans ?_
    rw [if_neg (by omega), nt_ne (by omega) (by omega) (by omega)]
    exact h9
  unfold hdM
  rw [e9, nI_1]
  refine ⟨fun j => ?_, fun j hj => ?_, a4, fun j hj => ?_⟩
  · show (f_X6_yearStep_L159 key (nI k) (nI (2130 + 6 * k)) o 6 (nI 1) (sa (si μ 23 (gi μ 23 + t)) 0 (nI (2130 + 6 * k)) key)).2.1 j = _
    rw [a1]
    show upd μ.1 23 (gi μ 23 + t) j = _
    rfl
  · refine Eq.trans ?_ ((a3 j hj).trans ?_)
    · show va_up _ 0 _ j = _
      exact if_neg hj
    · show va_up _ 0 _ j = _
      exact if_neg hj
  · refine Eq.trans (nt_sa (k := 2009) hj (by omega)) ?_
    rw [n0 j hj, nt_sa hj (by omega)]
    have e : ∀ x, nt (si μ 23 (gi μ 23 + t)) x = nt μ x := fun x => rfl
    rw [e]
    repeat' split
    all_goals first | rfl | (exfalso; omega)
section YSE
variable {μ : MS} {k : Nat}
/-- the reference's step, by its word -/
def yoM (μ : MS) (key : Int32) (k : Nat) (o t : Int32) : MS × Int32 := f_X6_yearOrder (f_X6_ahead (hdM μ key k o t)) key (nI (2130 + 6 * k))
def psh (μ : MS) (k : Nat) : MS := si (sa μ 21 (gi μ 22) (nI k)) 22 (gi (sa μ 21 (gi μ 22) (nI k)) 22 + 1)
def popM (μ : MS) (k : Nat) : MS := sa (sa (si μ 22 (gi μ 22 - 1)) 0 (nI (2130 + 6 * k + 4)) (ga (si μ 22 (gi μ 22 - 1)) 21 (gi (si μ 22 (gi μ 22 - 1)) 22))) 0 (((2130 : Int32) + ((6 : Int32) * (ga (sa (si μ 22 (gi μ 22 - 1)) 0 (nI (2130 + 6 * k + 4)) (ga (si μ 22 (gi μ 22 - 1)) 21 (gi (si μ 22 (gi μ 22 - 1)) 22))) 21 (gi (sa (si μ 22 (gi μ 22 - 1)) 0 (nI (2130 + 6 * k + 4)) (ga (si μ 22 (gi μ 22 - 1)) 21 (gi (si μ 22 (gi μ 22 - 1)) 22))) 22)))) + (4 : Int32)) (nI k)
def aM (μ : MS) (key : Int32) (k : Nat) : MS × Int32 := if (yoM μ key k 0 1).2 = 0 then ((yoM μ key k 0 1).1, 0) else f_X6_wantSign (yoM μ key k 0 1).1 59
def oM (μ : MS) (key : Int32) (k : Nat) : MS × Int32 := if (yoM μ key k 1 1).2 = 0 then ((yoM μ key k 1 1).1, 0) else f_X6_wantSign (psh (yoM μ key k 1 1).1 k) 59
def cM (μ : MS) (k : Nat) : MS × Int32 := if (yoM μ 26 k 0 0).2 = 0 then ((yoM μ 26 k 0 0).1, 0) else f_X6_wantSign (popM (yoM μ 26 k 0 0).1 k) 59
theorem yS_act {key : Int32} (e9 : ga μ 0 2009 = nI k) (hk : f_X6_inWords μ = key) (h1 : ¬ key < 17) (h2 : ¬ 27 < key) (h3 : ¬ key = 22) (h4 : ¬ key = 23) (h5 : ¬ key = 24) (h6 : ¬ key = 25) (h7 : ¬ key = 26) (h30 : ¬ gi μ 23 = 30) : f_X6_yearStep μ = aM μ key k := by
  unfold f_X6_yearStep aM yoM hdM
  dsimp only
  rw [hk, e9, ix_r]
  simp only [h1, h2, h3, h4, h5, h6, h7, h30, if_false, if_true]
  all_goals rfl
theorem yS_open {key : Int32} (e9 : ga μ 0 2009 = nI k) (hk : f_X6_inWords μ = key) (h5 : key = 24 ∨ key = 25) (h30 : ¬ gi μ 23 = 30) (h3 : ¬ gi μ 22 = 3) : f_X6_yearStep μ = oM μ key k := by
  unfold f_X6_yearStep oM yoM hdM psh
  dsimp only
  rw [hk, e9, ix_r]
  rcases h5 with z | z <;> subst z
  · simp only [show ¬ (24 : Int32) < 17 by decide, show ¬ (27 : Int32) < 24 by decide, show ¬ (24 : Int32) = 22 by decide, show ¬ (24 : Int32) = 23 by decide, show ¬ (24 : Int32) = 26 by decide, show ¬ (1 : Int32) = 0 by decide, h30, h3, if_false, if_true]
    all_goals rfl
  · simp only [show ¬ (25 : Int32) < 17 by decide, show ¬ (27 : Int32) < 25 by decide, show ¬ (25 : Int32) = 22 by decide, show ¬ (25 : Int32) = 23 by decide, show ¬ (25 : Int32) = 24 by decide, show ¬ (25 : Int32) = 26 by decide, show ¬ (1 : Int32) = 0 by decide, h30, h3, if_false, if_true]
    all_goals rfl
theorem yS_close (e9 : ga μ 0 2009 = nI k) (hk : f_X6_inWords μ = 26) (h22 : ¬ gi μ 22 = 0) : f_X6_yearStep μ = cM μ k := by
  have i4 : nI (2130 + 6 * k) + (4 : Int32) = nI (2130 + 6 * k + 4) := nI_add _ 4
  unfold f_X6_yearStep cM yoM hdM popM
  dsimp only
  rw [hk, e9, ix_r, i4]
  simp only [show ¬ (26 : Int32) < 17 by decide, show ¬ (27 : Int32) < 26 by decide, show ¬ (26 : Int32) = 22 by decide, show ¬ (26 : Int32) = 23 by decide, show ¬ (26 : Int32) = 24 by decide, show ¬ (26 : Int32) = 25 by decide, h22, if_false, if_true]
  all_goals rfl
theorem yS_over {key : Int32} (hk : f_X6_inWords μ = key) (h1 : ¬ key < 17) (h2 : ¬ 27 < key) (h3 : ¬ key = 22) (h4 : ¬ key = 23) (h7 : ¬ key = 26) (h30 : gi μ 23 = 30) : f_X6_yearStep μ = f_X6_fails μ 6 := by
  unfold f_X6_yearStep
  dsimp only
  rw [hk]
  simp only [h1, h2, h3, h4, h7, h30, if_false, if_true]
  all_goals rfl
theorem yS_deep {key : Int32} (hk : f_X6_inWords μ = key) (h5 : key = 24 ∨ key = 25) (h30 : ¬ gi μ 23 = 30) (h3 : gi μ 22 = 3) : f_X6_yearStep μ = f_X6_fails μ 7 := by
  unfold f_X6_yearStep
  dsimp only
  rw [hk]
  rcases h5 with z | z <;> subst z
  · simp only [show ¬ (24 : Int32) < 17 by decide, show ¬ (27 : Int32) < 24 by decide, show ¬ (24 : Int32) = 22 by decide, show ¬ (24 : Int32) = 23 by decide, show ¬ (24 : Int32) = 26 by decide, show ¬ (1 : Int32) = 0 by decide, h30, h3, if_false, if_true]
    all_goals rfl
  · simp only [show ¬ (25 : Int32) < 17 by decide, show ¬ (27 : Int32) < 25 by decide, show ¬ (25 : Int32) = 22 by decide, show ¬ (25 : Int32) = 23 by decide, show ¬ (25 : Int32) = 24 by decide, show ¬ (25 : Int32) = 26 by decide, show ¬ (1 : Int32) = 0 by decide, h30, h3, if_false, if_true]
    all_goals rfl
theorem yS_bad {key : Int32} (hk : f_X6_inWords μ = key) (h : key < 17 ∨ 27 < key ∨ key = 22 ∨ key = 23 ∨ (key = 26 ∧ gi μ 22 = 0)) : f_X6_yearStep μ = f_X6_fails μ 2 := by
  unfold f_X6_yearStep
  dsimp only
  rw [hk]
  by_cases c1 : key < 17
  · simp only [c1, if_true]
  by_cases c2 : 27 < key
  · simp only [c1, c2, if_false, if_true]
  by_cases c3 : key = 22
  · subst c3
    simp only [show ¬ (22 : Int32) < 17 by decide, show ¬ (27 : Int32) < 22 by decide, if_false, if_true]
  by_cases c4 : key = 23
  · subst c4
    simp only [show ¬ (23 : Int32) < 17 by decide, show ¬ (27 : Int32) < 23 by decide, show ¬ (23 : Int32) = 22 by decide, if_false, if_true]
  rcases h with z | z | z | z | ⟨z, z2⟩
  · exact absurd z c1
  · exact absurd z c2
  · exact absurd z c3
  · exact absurd z c4
  · subst z
    simp only [show ¬ (26 : Int32) < 17 by decide, show ¬ (27 : Int32) < 26 by decide, show ¬ (26 : Int32) = 22 by decide, show ¬ (26 : Int32) = 23 by decide, z2, if_false, if_true]
end YSE
theorem act_e {S A B : Nat} {σ : MS × MS} {μ : MS} (h : TK S A B σ μ) : f_X7_acts σ = if f_X6_inWords μ = 17 then 0 else if f_X6_inWords μ = 18 then 1 else if f_X6_inWords μ = 19 then 2 else if f_X6_inWords μ = 20 then 3 else if f_X6_inWords μ = 21 then 4 else if f_X6_inWords μ = 27 then 5 else -1 := by
  have w0 : f_X7_isWord σ 0 = 0 ↔ ¬ f_X6_inWords μ = 17 := (wd h (i := 0) (by omega)).1
  have w1 : f_X7_isWord σ 1 = 0 ↔ ¬ f_X6_inWords μ = 18 := (wd h (i := 1) (by omega)).1
  have w2 : f_X7_isWord σ 2 = 0 ↔ ¬ f_X6_inWords μ = 19 := (wd h (i := 2) (by omega)).1
  have w3 : f_X7_isWord σ 3 = 0 ↔ ¬ f_X6_inWords μ = 20 := (wd h (i := 3) (by omega)).1
  have w4 : f_X7_isWord σ 4 = 0 ↔ ¬ f_X6_inWords μ = 21 := (wd h (i := 4) (by omega)).1
  have w5 : f_X7_isWord σ 5 = 0 ↔ ¬ f_X6_inWords μ = 27 := (wd h (i := 5) (by omega)).1
  unfold f_X7_acts
  dsimp only
  by_cases c0 : f_X6_inWords μ = 17
  · rw [if_pos c0, if_neg (fun q => w0.mp q c0)]
  rw [if_neg c0, if_pos (w0.mpr c0)]
  by_cases c1 : f_X6_inWords μ = 18
  · rw [if_pos c1, if_neg (fun q => w1.mp q c1)]
  rw [if_neg c1, if_pos (w1.mpr c1)]
  by_cases c2 : f_X6_inWords μ = 19
  · rw [if_pos c2, if_neg (fun q => w2.mp q c2)]
  rw [if_neg c2, if_pos (w2.mpr c2)]
  by_cases c3 : f_X6_inWords μ = 20
  · rw [if_pos c3, if_neg (fun q => w3.mp q c3)]
  rw [if_neg c3, if_pos (w3.mpr c3)]
  by_cases c4 : f_X6_inWords μ = 21
  · rw [if_pos c4, if_neg (fun q => w4.mp q c4)]
  rw [if_neg c4, if_pos (w4.mpr c4)]
  by_cases c5 : f_X6_inWords μ = 27
  · rw [if_pos c5, if_neg (fun q => w5.mp q c5)]
  rw [if_neg c5, if_pos (w5.mpr c5)]
