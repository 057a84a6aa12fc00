/-! TEXTS: reading leaves the tape's length -/
set_option maxRecDepth 100000
section G10
theorem g_si {μ : MS} {k : Nat} {v : Int32} (h : ¬ k = 10) : gi (si μ k v) 10 = gi μ 10 := by
  show upd μ.1 k v 10 = μ.1 10
  simp [upd, show ¬ 10 = k from fun q => h q.symm]
theorem g_sa {μ : MS} {k j : Nat} {i v : Int32} : gi (sa μ k i v) j = gi μ j := rfl
theorem g_sb {μ : MS} {k j : Nat} {i : Int32} {v : Int64} : gi (sb μ k i v) j = gi μ j := rfl
theorem g_L0 : ∀ (n : Nat) (μ : MS), gi (f_X6_ahead_L0 n μ) 10 = gi μ 10
  | 0, μ => rfl
  | n + 1, μ => by
    rw [f_X6_ahead_L0]
    dsimp only
    repeat' split
    all_goals first | rfl | (rw [g_L0 n]; exact g_si (by decide))
theorem g_L81 : ∀ (n : Nat) (μ : MS), gi (f_X6_ahead_L81 n μ) 10 = gi μ 10
  | 0, μ => rfl
  | n + 1, μ => by
    rw [f_X6_ahead_L81]
    dsimp only
    repeat' split
    all_goals first | rfl | (rw [g_L81 n]; exact g_si (by decide))
theorem g_L128 : ∀ (n : Nat) (μ : MS), gi (f_X6_ahead_L128 n μ) 10 = gi μ 10
  | 0, μ => rfl
  | n + 1, μ => by
    rw [f_X6_ahead_L128]
    dsimp only
    repeat' split
    all_goals first | rfl | (rw [g_L128 n, g_si (by decide), g_si (by decide)])
theorem g_ah (μ : MS) : gi (f_X6_ahead μ) 10 = gi μ 10 := by
  unfold f_X6_ahead
  dsimp only
  repeat' split
  all_goals simp only [g_si, g_L0, g_L81, g_L128, Nat.reduceEqDiff, not_false_eq_true]
theorem g_fl (μ : MS) (k : Int32) : gi (f_X6_fails μ k).1 10 = gi μ 10 := by
  unfold f_X6_fails
  dsimp only
  repeat' split
  all_goals rfl
theorem g_nu (μ : MS) (a b c : Int32) : gi (f_X6_number μ a b c).1 10 = gi μ 10 := by
  unfold f_X6_number
  dsimp only
  repeat' split
  all_goals first | with_reducible rfl | simp only [g_fl, g_ah, g_sa]
theorem g_ws (μ : MS) (k : Int32) : gi (f_X6_wantSign μ k).1 10 = gi μ 10 := by
  unfold f_X6_wantSign
  dsimp only
  repeat' split
  all_goals first | with_reducible rfl | simp only [g_fl, g_ah, g_sa]
theorem g_ww (μ : MS) (k : Int32) : gi (f_X6_wantWord μ k).1 10 = gi μ 10 := by
  unfold f_X6_wantWord
  dsimp only
  repeat' split
  all_goals first | with_reducible rfl | simp only [g_fl, g_ah, g_sa]
theorem g_th (μ : MS) (k : Int32) : gi (f_X6_isThere μ k).1 10 = gi μ 10 := by
  unfold f_X6_isThere
  dsimp only
  repeat' split
  all_goals first | with_reducible rfl | simp only [g_fl, g_ah, g_sa]
theorem g_ol (μ : MS) (a b c : Int32) : gi (f_X6_oldOne μ a b c).1 10 = gi μ 10 := by
  unfold f_X6_oldOne
  dsimp only
  repeat' split
  all_goals first | with_reducible rfl | simp only [g_fl, g_ah, g_sa]
theorem g_ot (μ : MS) (a b c e : Int32) : gi (f_X6_otherOne μ a b c e).1 10 = gi μ 10 := by
  unfold f_X6_otherOne
  dsimp only
  repeat' split
  all_goals first | with_reducible rfl | simp only [g_fl, g_ol]
theorem g_ma (μ : MS) (a b : Int32) : gi (f_X6_mate μ a b).1 10 = gi μ 10 := by
  unfold f_X6_mate
  dsimp only
  repeat' split
  all_goals first | with_reducible rfl | simp only [g_fl, g_ol]
theorem g_cp (μ : MS) : gi (f_X6_aCouple μ).1 10 = gi μ 10 := by
  unfold f_X6_aCouple
  dsimp only
  repeat' split
  all_goals first | with_reducible rfl | simp only [g_fl, g_ah, g_sa, g_ma]
theorem g_ds (μ : MS) : gi (f_X6_aDish μ).1 10 = gi μ 10 := by
  unfold f_X6_aDish
  dsimp only
  repeat' split
  all_goals first | with_reducible rfl | simp only [g_fl, g_ah, g_sa, g_nu, g_th, g_ol]
theorem g_ow (μ : MS) : gi (f_X6_aDebt μ).1 10 = gi μ 10 := by
  unfold f_X6_aDebt
  dsimp only
  repeat' split
  all_goals first | with_reducible rfl | simp only [g_fl, g_ah, g_sa, g_nu, g_ot, g_ol]
theorem g_on (μ : MS) (k : Int32) : gi (f_X6_once μ k).1 10 = gi μ 10 := by
  unfold f_X6_once
  dsimp only
  repeat' split
  all_goals first | with_reducible rfl | simp only [g_fl, g_ah, g_sa, g_si, Nat.reduceEqDiff, not_false_eq_true]
theorem g_psT (n : Nat) (μ : MS) : gi (psT n μ).1 10 = gi μ 10 := by
  unfold psT
  dsimp only
  repeat' split
  all_goals first | with_reducible rfl | simp only [g_th, g_sa]
theorem g_psS (n : Nat) (k to lo hi : Int32) (f : MS → MS × Int32) (μ : MS) (hf : ∀ w, gi (f w).1 10 = gi w 10) : gi (psS n k to lo hi f μ).1 10 = gi μ 10 := by
  unfold psS
  repeat' split
  all_goals first | with_reducible rfl | simp only [hf, g_nu, g_th]
theorem g_ps {n : Nat} {μ : MS} (e0 : ga μ 0 (2000 : Int32) = nI n) : gi (f_X6_aPerson μ).1 10 = gi μ 10 := by
  rw [aP_e e0]
  repeat' split
  all_goals first | with_reducible rfl | (rw [g_psS _ _ _ _ _ _ _ (fun w => g_psS _ _ _ _ _ _ _ (fun w => g_psS _ _ _ _ _ _ _ (fun w => g_psS _ _ _ _ _ _ _ (g_psT n))))]; simp only [g_fl, g_ah, g_sa, g_sb]) | simp only [g_fl, g_ah, g_sa, g_sb]
theorem g_pt {n : Nat} {μ : MS} (e0 : ga μ 0 (2000 : Int32) = nI n) : gi (f_X6_tablePart μ).1 10 = gi μ 10 := by
  unfold f_X6_tablePart
  dsimp only
  repeat' split
  all_goals first | with_reducible rfl | simp only [g_fl, g_ws, g_ps e0, g_cp, g_ds, g_ow, g_on]
end G10
