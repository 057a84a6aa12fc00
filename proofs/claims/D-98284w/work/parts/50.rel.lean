/-! WHAT THE TWO TELL: a table's picture against slot 0 of the reference; answers alike -/
set_option maxRecDepth 100000
def RT (τ σ : MS) : Prop :=
  (gi τ 1 = ga σ 0 0 ∧ gi τ 2 = ga σ 0 1 ∧ gi τ 3 = ga σ 0 2 ∧ gi τ 4 = ga σ 0 3 ∧ gi τ 5 = ga σ 0 4 ∧ gi τ 6 = ga σ 0 5 ∧ gi τ 7 = ga σ 0 6 ∧ gi τ 8 = ga σ 0 8 ∧ f_X5_guests τ = ga σ 0 7) ∧
  (∀ p : Int32, (0 ≤ p.toInt ∧ p.toInt < (ga σ 0 0).toInt) → ga τ 21 p = ga σ 0 (f_X6_personRow p) ∧ ga τ 22 p = ga σ 0 (f_X6_personRow p + 1) ∧ ga τ 23 p = ga σ 0 (f_X6_personRow p + 2) ∧ ga τ 24 p = ga σ 0 (f_X6_personRow p + 3) ∧ ga τ 25 p = ga σ 0 (f_X6_personRow p + 4) ∧ ga τ 11 p = ga σ 0 (f_X6_personRow p + 5) ∧ ga τ 13 p = ga σ 0 (f_X6_personRow p + 6) - ga σ 0 (f_X6_personRow p + 7)) ∧
  (∀ d : Int32, (0 ≤ d.toInt ∧ d.toInt < (ga σ 0 2).toInt) → ga τ 9 d = ga σ 0 (60 + 2 * d) ∧ ga τ 10 d = ga σ 0 ((60 + 2 * d) + 1)) ∧
  (∀ a b : Int32, (0 ≤ a.toInt ∧ a.toInt ≤ 5) → (0 ≤ b.toInt ∧ b.toInt ≤ 5) → ga τ 12 (6 * a + b) = ga σ 0 (f_X6_debtRow a b))
theorem z_0 : (0 : Int32).toInt = 0 := rfl
theorem z_1 : (1 : Int32).toInt = 1 := rfl
theorem z_2 : (2 : Int32).toInt = 2 := rfl
theorem z_m1 : (-1 : Int32).toInt = -1 := rfl
theorem z_6 : (6 : Int32).toInt = 6 := rfl
theorem z_8 : (8 : Int32).toInt = 8 := rfl
theorem z_12 : (12 : Int32).toInt = 12 := rfl
theorem z_60 : (60 : Int32).toInt = 60 := rfl
theorem z_92 : (92 : Int32).toInt = 92 := rfl
theorem inc1 {x : Int32} (h : x.toInt < 2000000000) (h0 : -2000000000 ≤ x.toInt) : (x + 1).toInt = x.toInt + 1 := i_add rfl z_1 (by omega)
theorem pr_i {p : Int32} (h : 0 ≤ p.toInt ∧ p.toInt ≤ 5) : (f_X6_personRow p).toInt = 12 + 8 * p.toInt := i_add z_12 (i_mul z_8 rfl (by omega)) (by omega)
theorem dr_i {a b : Int32} (h : 0 ≤ a.toInt ∧ a.toInt ≤ 5) (h2 : 0 ≤ b.toInt ∧ b.toInt ≤ 5) : (f_X6_debtRow a b).toInt = 92 + 6 * a.toInt + b.toInt := i_add (i_add z_92 (i_mul z_6 rfl (by omega)) (by omega)) rfl (by omega)
theorem ow_i {a b : Int32} (h : 0 ≤ a.toInt ∧ a.toInt ≤ 5) (h2 : 0 ≤ b.toInt ∧ b.toInt ≤ 5) : (6 * a + b).toInt = 6 * a.toInt + b.toInt := i_add (i_mul z_6 rfl (by omega)) rfl (by omega)
section SLR
variable {σ : MS}
theorem SL_p (h : SL σ 0) : 0 ≤ (ga σ 0 0).toInt ∧ (ga σ 0 0).toInt ≤ 6 := by
  have q := (h 0 (by rw [z_0]; omega) (by rw [z_0]; omega)).1
  exact q (by rw [z_0]; rfl)
theorem SL_d (h : SL σ 0) : 0 ≤ (ga σ 0 2).toInt ∧ (ga σ 0 2).toInt ≤ 16 := (h 2 (by rw [z_2]; omega) (by rw [z_2]; omega)).2.2.1 (by rw [z_2]; rfl)
theorem SL_in (h : SL σ 0) : 0 ≤ (ga σ 0 8).toInt ∧ (ga σ 0 8).toInt ≤ 63 := (h 8 (by rw [z_8]; omega) (by rw [z_8]; omega)).2.2.2.2.2.1 (by rw [z_8]; omega)
theorem SL_ps (h : SL σ 0) {p : Int32} (hp : 0 ≤ p.toInt ∧ p.toInt ≤ 5) : (0 ≤ (ga σ 0 (f_X6_personRow p)).toInt ∧ (ga σ 0 (f_X6_personRow p)).toInt ≤ 16) ∧ (0 ≤ (ga σ 0 (f_X6_personRow p + 1)).toInt ∧ (ga σ 0 (f_X6_personRow p + 1)).toInt ≤ 20) ∧ (0 ≤ (ga σ 0 (f_X6_personRow p + 2)).toInt ∧ (ga σ 0 (f_X6_personRow p + 2)).toInt ≤ 99) ∧ (0 ≤ (ga σ 0 (f_X6_personRow p + 3)).toInt ∧ (ga σ 0 (f_X6_personRow p + 3)).toInt ≤ 999) ∧ (-1 ≤ (ga σ 0 (f_X6_personRow p + 4)).toInt ∧ (ga σ 0 (f_X6_personRow p + 4)).toInt ≤ 5) := by
  have e := pr_i hp
  have e1 : (f_X6_personRow p + 1).toInt = 12 + 8 * p.toInt + 1 := i_add e z_1 (by omega)
  have e2 : (f_X6_personRow p + 2).toInt = 12 + 8 * p.toInt + 2 := i_add e z_2 (by omega)
  have e3 : (f_X6_personRow p + 3).toInt = 12 + 8 * p.toInt + 3 := i_add e (show (3 : Int32).toInt = 3 from rfl) (by omega)
  have e4 : (f_X6_personRow p + 4).toInt = 12 + 8 * p.toInt + 4 := i_add e (show (4 : Int32).toInt = 4 from rfl) (by omega)
  have a0 := (h _ (by omega) (by omega : (f_X6_personRow p).toInt < 0 + 130)).2.2.2.2.2.2.1 (by omega)
  have a1 := (h _ (by omega) (by omega : (f_X6_personRow p + 1).toInt < 0 + 130)).2.2.2.2.2.2.1 (by omega)
  have a2 := (h _ (by omega) (by omega : (f_X6_personRow p + 2).toInt < 0 + 130)).2.2.2.2.2.2.1 (by omega)
  have a3 := (h _ (by omega) (by omega : (f_X6_personRow p + 3).toInt < 0 + 130)).2.2.2.2.2.2.1 (by omega)
  have a4 := (h _ (by omega) (by omega : (f_X6_personRow p + 4).toInt < 0 + 130)).2.2.2.2.2.2.1 (by omega)
  exact ⟨a0.1 (by omega), a1.2.1 (by omega), a2.2.2.1 (by omega), a3.2.2.2.1 (by omega), a4.2.2.2.2 (by omega)⟩
theorem SL_ds (h : SL σ 0) {d : Int32} (hd : 0 ≤ d.toInt ∧ d.toInt ≤ 15) : (0 ≤ (ga σ 0 (60 + 2 * d)).toInt ∧ (ga σ 0 (60 + 2 * d)).toInt ≤ 999) ∧ (-1 ≤ (ga σ 0 ((60 + 2 * d) + 1)).toInt ∧ (ga σ 0 ((60 + 2 * d) + 1)).toInt ≤ 5) := by
  have e : (60 + 2 * d).toInt = 60 + 2 * d.toInt := i_add z_60 (i_mul z_2 rfl (by omega)) (by omega)
  have e1 : ((60 + 2 * d) + 1).toInt = 60 + 2 * d.toInt + 1 := i_add e z_1 (by omega)
  have a0 := (h _ (by omega) (by omega : (60 + 2 * d).toInt < 0 + 130)).2.2.2.2.2.2.2.1 (by omega)
  have a1 := (h _ (by omega) (by omega : ((60 + 2 * d) + 1).toInt < 0 + 130)).2.2.2.2.2.2.2.1 (by omega)
  exact ⟨a0.1 (by omega), a1.2 (by omega)⟩
theorem SL_ow (h : SL σ 0) {a b : Int32} (ha : 0 ≤ a.toInt ∧ a.toInt ≤ 5) (hb : 0 ≤ b.toInt ∧ b.toInt ≤ 5) : 0 ≤ (ga σ 0 (f_X6_debtRow a b)).toInt ∧ (ga σ 0 (f_X6_debtRow a b)).toInt ≤ 999999 := by
  have e := dr_i ha hb
  exact (h _ (by omega) (by omega : (f_X6_debtRow a b).toInt < 0 + 130)).2.2.2.2.2.2.2.2 (by omega)
end SLR
theorem bc_bits_k : ∀ n, n < 64 → f_J11_bitCount (nI n) = f_X6_bits (nI n) := by decide +kernel
theorem bc_bits {x : Int32} (h : 0 ≤ x.toInt ∧ x.toInt ≤ 63) : f_J11_bitCount x = f_X6_bits x := by
  obtain ⟨j, hj, rfl⟩ := small_nI (n := 63) h
  exact bc_bits_k j (by omega)
section RTS
variable {τ σ : MS}
theorem RT.n (h : RT τ σ) : gi τ 1 = ga σ 0 0 := h.1.1
theorem RT.d (h : RT τ σ) : gi τ 3 = ga σ 0 2 := h.1.2.2.1
theorem RT.s (h : RT τ σ) : gi τ 4 = ga σ 0 3 := h.1.2.2.2.1
theorem RT.l (h : RT τ σ) : gi τ 5 = ga σ 0 4 := h.1.2.2.2.2.1
theorem RT.i (h : RT τ σ) : gi τ 8 = ga σ 0 8 := h.1.2.2.2.2.2.2.2.1
theorem RT.g (h : RT τ σ) : f_X5_guests τ = ga σ 0 7 := h.1.2.2.2.2.2.2.2.2
theorem RT.p (h : RT τ σ) {p : Int32} (hp : 0 ≤ p.toInt) (h2 : p.toInt < (ga σ 0 0).toInt) : ga τ 21 p = ga σ 0 (f_X6_personRow p) ∧ ga τ 22 p = ga σ 0 (f_X6_personRow p + 1) ∧ ga τ 23 p = ga σ 0 (f_X6_personRow p + 2) ∧ ga τ 24 p = ga σ 0 (f_X6_personRow p + 3) ∧ ga τ 25 p = ga σ 0 (f_X6_personRow p + 4) ∧ ga τ 11 p = ga σ 0 (f_X6_personRow p + 5) ∧ ga τ 13 p = ga σ 0 (f_X6_personRow p + 6) - ga σ 0 (f_X6_personRow p + 7) := h.2.1 p ⟨hp, h2⟩
theorem RT.di (h : RT τ σ) {d : Int32} (hp : 0 ≤ d.toInt) (h2 : d.toInt < (ga σ 0 2).toInt) : ga τ 9 d = ga σ 0 (60 + 2 * d) ∧ ga τ 10 d = ga σ 0 ((60 + 2 * d) + 1) := h.2.2.1 d ⟨hp, h2⟩
theorem RT.ow (h : RT τ σ) {a b : Int32} (ha : 0 ≤ a.toInt ∧ a.toInt ≤ 5) (hb : 0 ≤ b.toInt ∧ b.toInt ≤ 5) : f_X5_owes τ a b = ga σ 0 (f_X6_debtRow a b) := h.2.2.2 a b ha hb
theorem e_part {a s p : Int32} (hs : 0 ≤ s.toInt ∧ s.toInt ≤ 63) : f_X5_part a s p = f_X6_partOf a s p := by
  unfold f_X5_part f_X6_partOf
  dsimp only
  rw [bc_bits hs, bc_bits (and63 hs)]
theorem e_bill_L (h : RT τ σ) (hS : SL σ 0) : ∀ (n : Nat) (a b : Int32), 0 ≤ b.toInt → f_X5_bill_L4 τ n a b = f_X6_bill_L4 σ n a b := by
  intro n
  induction n with
  | zero => intro a b _; rfl
  | succ n ih =>
    intro a b hb
    rw [f_X5_bill_L4, f_X6_bill_L4, h.d]
    have hd := SL_d hS
    by_cases c : ga σ 0 2 ≤ b
    · rw [if_pos c, if_pos c]
    · rw [if_neg c, if_neg c]
      have c' := c_nle c
      dsimp only
      rw [(h.di hb c').1]
      exact ih _ _ (by rw [inc1 (by omega) (by omega)]; omega)
theorem e_bill (h : RT τ σ) (hS : SL σ 0) : f_X5_bill τ = f_X6_bill σ := by
  unfold f_X5_bill f_X6_bill
  rw [e_bill_L h hS _ _ _ (by rw [z_0]; omega)]
theorem e_com_L (h : RT τ σ) (hS : SL σ 0) : ∀ (n : Nat) (a b : Int32), 0 ≤ b.toInt → f_X5_had_L4 τ (-1) n a b = f_X6_commons_L4 σ n a b := by
  intro n
  induction n with
  | zero => intro a b _; rfl
  | succ n ih =>
    intro a b hb
    rw [f_X5_had_L4, f_X6_commons_L4, h.d]
    have hd := SL_d hS
    by_cases c : ga σ 0 2 ≤ b
    · rw [if_pos c, if_pos c]
    · rw [if_neg c, if_neg c]
      have c' := c_nle c
      dsimp only
      rw [(h.di hb c').1, (h.di hb c').2]
      exact ih _ _ (by rw [inc1 (by omega) (by omega)]; omega)
theorem e_com (h : RT τ σ) (hS : SL σ 0) : f_X5_had τ (-1) = f_X6_commons σ := by
  unfold f_X5_had f_X6_commons
  rw [e_com_L h hS _ _ _ (by rw [z_0]; omega)]
theorem e_had_L (h : RT τ σ) (hS : SL σ 0) (p x : Int32) : ∀ (n : Nat) (a b : Int32), 0 ≤ b.toInt → (f_X5_had_L4 τ p n a b).1 + x = (f_X6_eatenBy_L15 σ p n (a + x) b).1 := by
  intro n
  induction n with
  | zero => intro a b _; rfl
  | succ n ih =>
    intro a b hb
    rw [f_X5_had_L4, f_X6_eatenBy_L15, h.d]
    have hd := SL_d hS
    by_cases c : ga σ 0 2 ≤ b
    · rw [if_pos c, if_pos c]
    · rw [if_neg c, if_neg c]
      have c' := c_nle c
      dsimp only
      rw [(h.di hb c').1, (h.di hb c').2, ih _ _ (by rw [inc1 (by omega) (by omega)]; omega)]
      congr 2
      rw [Int32.add_assoc a _ x, Int32.add_assoc a x _, Int32.add_comm x]
theorem e_eaten (h : RT τ σ) (hS : SL σ 0) (p : Int32) : f_X5_eaten τ p = f_X6_eatenBy σ p := by
  unfold f_X5_eaten f_X6_eatenBy f_X5_had f_X6_everybody
  dsimp only
  have := e_com h hS
  unfold f_X5_had at this
  dsimp only at this
  rw [this, h.n, e_part (ev_rng (SL_p hS)), e_had_L h hS p _ _ _ _ (by rw [z_0]; omega), Int32.zero_add]
theorem e_heads (h : RT τ σ) : f_X5_heads τ = f_X6_heads σ := by
  unfold f_X5_heads f_X6_heads f_X6_everybody
  dsimp only
  rw [h.n, h.g]
theorem hd_rng (hS : SL σ 0) : 0 ≤ (f_X6_heads σ).toInt ∧ (f_X6_heads σ).toInt ≤ 63 := by
  unfold f_X6_heads f_X6_everybody
  dsimp only
  have := ev_rng (SL_p hS)
  split
  · exact this
  · exact and63 this
theorem i_isIn (s p : Int32) : (f_X6_isIn σ s p = 0 ↔ ¬ (s >>> (p &&& 31)) &&& 1 = 1) := by
  unfold f_X6_isIn
  split
  · rename_i c; exact ⟨fun q => absurd q (by decide), fun q => absurd c q⟩
  · rename_i c; exact ⟨fun _ => c, fun _ => rfl⟩
theorem bit01 (x : Int32) : x &&& 1 = 0 ∨ x &&& 1 = 1 := by
  have := and_rng (x := 1) (y := x) (by rw [z_1]; omega)
  rw [Int32.and_comm, z_1] at this
  rcases (show (x &&& 1).toInt = 0 ∨ (x &&& 1).toInt = 1 by omega) with q | q
  · exact Or.inl (Int32.toInt_inj.mp q)
  · exact Or.inr (Int32.toInt_inj.mp q)
theorem bit_0 (x : Int32) : (x &&& 1 = 0) ↔ ¬ x &&& 1 = 1 := by
  rcases bit01 x with q | q <;> rw [q] <;> decide
theorem isIn_0 (s p : Int32) : (f_X6_isIn σ s p = 0 ↔ (s >>> (p &&& 31)) &&& 1 = 0) := by rw [i_isIn, bit_0]
theorem neg_m1 {x : Int32} (h : -1 ≤ x.toInt) : (x = -1 ↔ x < 0) := by
  constructor
  · intro e; rw [e]; decide
  · intro q
    have := c_lt q
    rw [z_0] at this
    exact Int32.toInt_inj.mp (by rw [z_m1]; omega)
theorem e_units_L (h : RT τ σ) (hS : SL σ 0) : ∀ (n : Nat) (a b : Int32), 0 ≤ b.toInt → f_X5_units_L9 τ (f_X6_heads σ) n a b = f_X6_units_L7 σ n a b := by
  intro n
  induction n with
  | zero => intro a b _; rfl
  | succ n ih =>
    intro a b hb
    rw [f_X5_units_L9, f_X6_units_L7, h.n]
    have hp := SL_p hS
    by_cases c : ga σ 0 0 ≤ b
    · rw [if_pos c, if_pos c]
    · rw [if_neg c, if_neg c]
      have c' := c_nle c
      have ih := fun a => ih a (b + 1) (by rw [inc1 (by omega) (by omega)]; omega)
      have q := (h.p hb c').2.2.2.2.1
      have r := (SL_ps hS (p := b) (by omega)).2.2.2.2
      dsimp only
      rw [q]
      simp only [← neg_m1 r.1, ih, isIn_0, bit_0]
      split
      · rfl
      · split
        · rfl
        · split
          · split
            · rename_i c2; first | rfl | rw [if_neg (not_not_intro c2)]
            · rename_i c2; first | rfl | rw [if_pos c2]
          · rename_i c1; first | rfl | rw [if_pos c1]
theorem e_units (h : RT τ σ) (hS : SL σ 0) : f_X5_units τ = f_X6_units σ := by
  unfold f_X5_units f_X6_units
  dsimp only
  rw [e_heads h, e_units_L h hS _ _ _ (by rw [z_0]; omega)]
theorem un_rng_L (hS : SL σ 0) : ∀ (n : Nat) (a b : Int32), (0 ≤ a.toInt ∧ a.toInt ≤ 63) → 0 ≤ (f_X6_units_L7 σ n a b).1.toInt ∧ (f_X6_units_L7 σ n a b).1.toInt ≤ 63 := by
  intro n
  induction n with
  | zero => intro a b h; exact h
  | succ n ih =>
    intro a b h
    rw [f_X6_units_L7]
    dsimp only
    repeat' split
    all_goals first | exact h | exact ih _ _ h | exact ih _ _ (and63 h)
theorem un_rng (hS : SL σ 0) : 0 ≤ (f_X6_units σ).toInt ∧ (f_X6_units σ).toInt ≤ 63 := un_rng_L hS _ _ _ (hd_rng hS)
theorem e_due_L (h : RT τ σ) (hS : SL σ 0) (y : Int32) : ∀ (n : Nat) (a b : Int32), 0 ≤ b.toInt → f_X5_due_L53 τ y n a b = f_X6_dueBy_L40 σ y n a b := by
  intro n
  induction n with
  | zero => intro a b _; rfl
  | succ n ih =>
    intro a b hb
    rw [f_X5_due_L53, f_X6_dueBy_L40, h.n]
    have hp := SL_p hS
    by_cases c : ga σ 0 0 ≤ b
    · rw [if_pos c, if_pos c]
    · rw [if_neg c, if_neg c]
      have c' := c_nle c
      dsimp only
      simp only [e_heads h, e_eaten h hS, isIn_0]
      exact ih _ _ (by rw [inc1 (by omega) (by omega)]; omega)
theorem e_due (h : RT τ σ) (hS : SL σ 0) (p s : Int32) : f_X5_due τ p s = f_X6_dueBy σ p s := by
  unfold f_X5_due f_X6_dueBy
  dsimp only
  simp only [e_bill h hS, e_heads h, e_units h hS, e_eaten h hS, isIn_0, e_due_L h hS p _ _ _ (show 0 ≤ (0 : Int32).toInt by rw [z_0]; omega), e_part (hd_rng hS), e_part (un_rng hS)]
theorem e_bal_L (h : RT τ σ) (hS : SL σ 0) (p : Int32) (hq : 0 ≤ p.toInt ∧ p.toInt ≤ 5) : ∀ (n : Nat) (a b : Int32), 0 ≤ b.toInt → f_X5_balance_L4 τ p n a b = f_X6_balanceOf_L4 σ p n a b := by
  intro n
  induction n with
  | zero => intro a b _; rfl
  | succ n ih =>
    intro a b hb
    rw [f_X5_balance_L4, f_X6_balanceOf_L4, h.n]
    have hp := SL_p hS
    by_cases c : ga σ 0 0 ≤ b
    · rw [if_pos c, if_pos c]
    · rw [if_neg c, if_neg c]
      have c' := c_nle c
      dsimp only
      rw [h.ow (a := b) (b := p) (by omega) hq, h.ow (a := p) (b := b) hq (by omega)]
      exact ih _ _ (by rw [inc1 (by omega) (by omega)]; omega)
theorem e_bal (h : RT τ σ) (hS : SL σ 0) (p : Int32) (hq : 0 ≤ p.toInt ∧ p.toInt ≤ 5) : f_X5_balance τ p = f_X6_balanceOf σ p := by
  unfold f_X5_balance f_X6_balanceOf
  rw [e_bal_L h hS p hq _ _ _ (by rw [z_0]; omega)]
end RTS
