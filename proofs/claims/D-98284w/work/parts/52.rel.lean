/-! THE TABLE's methods against the reference's: who pays, who is next, rounds, loans -/
set_option maxRecDepth 100000
/-- how often one paid -/
def PB (σ : MS) (N : Int) : Prop := ∀ p : Int32, (0 ≤ p.toInt ∧ p.toInt ≤ 5) → 0 ≤ (ga σ 0 (f_X6_personRow p + 5)).toInt ∧ (ga σ 0 (f_X6_personRow p + 5)).toInt ≤ N
theorem PB.mono {σ : MS} {N M : Int} (h : PB σ N) (hm : N ≤ M) : PB σ M := fun p hp => ⟨(h p hp).1, by have := (h p hp).2; omega⟩
theorem SL_owe {σ : MS} {a b v : Int32} (hS : SL σ 0) (ha : 0 ≤ a.toInt ∧ a.toInt ≤ 5) (hb : 0 ≤ b.toInt ∧ b.toInt ≤ 5) (hv : 0 ≤ v.toInt ∧ v.toInt ≤ 999999) : SL (sa σ 0 (f_X6_debtRow a b) v) 0 :=
  SL_sa (dr_i ha hb) (by omega) (by omega) (fun _ _ => by unfold CV; omega) hS
theorem SL_po {σ : MS} {p k v : Int32} {K : Int} (hS : SL σ 0) (hp : 0 ≤ p.toInt ∧ p.toInt ≤ 5) (hk : k.toInt = K) (hK : 5 ≤ K ∧ K ≤ 7) : SL (sa σ 0 (f_X6_personRow p + k) v) 0 :=
  SL_sa (po_i hp hk (by omega)) (by omega) (by omega) (fun _ _ => by unfold CV; omega) hS
theorem PB_ne {σ : MS} {N : Int} {i v : Int32} (h : PB σ N) (hi : 0 ≤ i.toInt) (hn : i.toInt < 12 ∨ 60 ≤ i.toInt ∨ ¬ i.toInt % 8 = 1) : PB (sa σ 0 i v) N := fun p hp => by
  have e := po_i hp z_5 (by omega)
  rw [at_ne (by omega) hi (by omega)]
  exact h p hp
theorem PB_inc {σ : MS} {N : Int} {p v : Int32} (h : PB σ N) (hp : 0 ≤ p.toInt ∧ p.toInt ≤ 5) (hv : v.toInt = (ga σ 0 (f_X6_personRow p + 5)).toInt + 1) : PB (sa σ 0 (f_X6_personRow p + 5) v) (N + 1) := fun r hr => by
  have e := po_i hp z_5 (by omega)
  have e2 := po_i hr z_5 (by omega)
  by_cases z : p.toInt = r.toInt
  · have z1 : p = r := Int32.toInt_inj.mp z
    subst z1
    rw [ga_sa_eq]
    have := h p hp
    omega
  · rw [at_ne (by omega) (by omega) (by omega)]
    have := h r hr
    omega
section RT3
variable {τ σ : MS}
theorem bal_rng (hS : SL σ 0) {p : Int32} (hp : 0 ≤ p.toInt ∧ p.toInt ≤ 5) : -6000000 ≤ (f_X6_balanceOf σ p).toInt ∧ (f_X6_balanceOf σ p).toInt ≤ 6000000 := by
  obtain ⟨j, hj, rfl⟩ := small_nI (n := 5) hp
  have h1 := SL_p hS
  obtain ⟨N, hN⟩ : ∃ N : Nat, (ga σ 0 0).toInt = (N : Int) := ⟨(ga σ 0 0).toInt.toNat, by omega⟩
  rw [bal_val hN (by omega) (by omega) hS]
  have := isum_rng (f := fun o => Dd σ o j - Dd σ j o) (M := 999999) N (fun o ho => by
    have a := Dd_rng hS (a := o) (b := j) (by omega) (by omega)
    have b := Dd_rng hS (a := j) (b := o) (by omega) (by omega)
    show -999999 ≤ Dd σ o j - Dd σ j o ∧ Dd σ o j - Dd σ j o ≤ 999999
    omega)
  omega
theorem wait_rng {N : Int} (hS : SL σ 0) (hB : PB σ N) (hN : N ≤ 1000000) {p : Int32} (hp : 0 ≤ p.toInt ∧ p.toInt ≤ 5) (l : Int32) : -6000000 ≤ (f_X6_waits σ p l).toInt ∧ (f_X6_waits σ p l).toInt ≤ 6000000 := by
  have a := bal_rng hS hp
  have b := SL_ps hS hp
  have c := hB p hp
  have n1 : (-(ga σ 0 (f_X6_personRow p + 1))).toInt = -(ga σ 0 (f_X6_personRow p + 1)).toInt := i_neg rfl (by omega)
  have n2 : (-(ga σ 0 (f_X6_personRow p))).toInt = -(ga σ 0 (f_X6_personRow p)).toInt := i_neg rfl (by omega)
  unfold f_X6_waits
  dsimp only
  repeat' split
  all_goals omega
theorem e_first (h : RT τ σ) (hS : SL σ 0) {p : Int32} (hp : 0 ≤ p.toInt ∧ p.toInt < (ga σ 0 0).toInt) (l : Int32) : f_X5_first τ p l = -f_X6_waits σ p l := by
  have hP := SL_p hS
  have q := h.2.1 p hp
  unfold f_X5_first f_X6_waits
  dsimp only
  rw [q.1, q.2.1, q.2.2.2.2.2.1, e_bal h hS p (by omega)]
  repeat' split
  all_goals first | rfl | exact Int32.neg_neg.symm
theorem neg_le {x y : Int32} (hx : -6000000 ≤ x.toInt ∧ x.toInt ≤ 6000000) (hy : -6000000 ≤ y.toInt ∧ y.toInt ≤ 6000000) : (-x ≤ -y) ↔ (y ≤ x) := by
  rw [Int32.le_iff_toInt_le, Int32.le_iff_toInt_le, i_neg (a := x) rfl (by omega), i_neg (a := y) rfl (by omega)]
  omega
theorem e_turn_L {N : Int} (h : RT τ σ) (hS : SL σ 0) (hB : PB σ N) (hN : N ≤ 1000000) (l : Int32) : ∀ (n : Nat) (a b : Int32), 0 ≤ b.toInt → (-1 ≤ a.toInt ∧ a.toInt < (ga σ 0 0).toInt) → f_X5_turn_L4 τ l n a b = f_X6_turnOf_L4 σ l n a b := by
  intro n
  induction n with
  | zero => intro a b _ _; rfl
  | succ n ih =>
    intro a b hb ha
    rw [f_X5_turn_L4, f_X6_turnOf_L4, h.n]
    have hp := SL_p hS
    by_cases c : ga σ 0 0 ≤ b
    · rw [if_pos c, if_pos c]
    · rw [if_neg c, if_neg c]
      have c' := c_nle c
      have ih1 := ih a (b + 1) (by rw [inc1 (by omega) (by omega)]; omega) ha
      have ih2 := ih b (b + 1) (by rw [inc1 (by omega) (by omega)]; omega) (by omega)
      dsimp only
      simp only [e_heads h, ih1, ih2, ← neg_m1 (x := a) (show -1 ≤ a.toInt by omega)]
      simp only [i_isIn]
      by_cases c1 : (f_X6_heads σ >>> (b &&& 31)) &&& 1 = 1
      · rw [if_pos c1, if_neg (not_not_intro c1)]
        by_cases c2 : a = -1
        · rw [if_pos c2, if_pos c2]
        · rw [if_neg c2, if_neg c2]
          have a0 : 0 ≤ a.toInt := by
            have : ¬ a.toInt = -1 := fun q => c2 (Int32.toInt_inj.mp (by rw [z_m1]; exact q))
            omega
          rw [e_first h hS ⟨hb, c'⟩ l, e_first h hS ⟨a0, ha.2⟩ l]
          simp only [neg_le (wait_rng hS hB hN (p := b) (by omega) l) (wait_rng hS hB hN (p := a) (by omega) l)]
      · rw [if_neg c1, if_pos c1]
theorem e_turn {N : Int} (h : RT τ σ) (hS : SL σ 0) (hB : PB σ N) (hN : N ≤ 1000000) (l : Int32) : f_X5_turn τ l = f_X6_turnOf σ l := by
  have hp := SL_p hS
  unfold f_X5_turn f_X6_turnOf
  rw [e_turn_L h hS hB hN l _ _ _ (by rw [z_0]; omega) (by rw [z_m1]; omega)]
theorem e_drinks (h : RT τ σ) {p : Int32} (hp : 0 ≤ p.toInt ∧ p.toInt < (ga σ 0 0).toInt) : ga τ 13 p = f_X6_drinksOf σ p := (h.2.1 p hp).2.2.2.2.2.2
theorem e_buys_L (h : RT τ σ) (hS : SL σ 0) : ∀ (n : Nat) (a b : Int32), 0 ≤ b.toInt → (-1 ≤ a.toInt ∧ a.toInt < (ga σ 0 0).toInt) → f_X5_buys_L4 τ n a b = f_X6_buyer_L4 σ n a b := by
  intro n
  induction n with
  | zero => intro a b _ _; rfl
  | succ n ih =>
    intro a b hb ha
    rw [f_X5_buys_L4, f_X6_buyer_L4, h.n, h.i]
    have hp := SL_p hS
    by_cases c : ga σ 0 0 ≤ b
    · rw [if_pos c, if_pos c]
    · rw [if_neg c, if_neg c]
      have c' := c_nle c
      have ih1 := ih a (b + 1) (by rw [inc1 (by omega) (by omega)]; omega) ha
      have ih2 := ih b (b + 1) (by rw [inc1 (by omega) (by omega)]; omega) (by omega)
      dsimp only
      simp only [ih1, ih2, ← neg_m1 (x := a) (show -1 ≤ a.toInt by omega)]
      simp only [i_isIn]
      by_cases c1 : (ga σ 0 8 >>> (b &&& 31)) &&& 1 = 1
      · rw [if_pos c1, if_neg (not_not_intro c1)]
        by_cases c2 : a = -1
        · rw [if_pos c2, if_pos c2]
        · rw [if_neg c2, if_neg c2]
          have a0 : 0 ≤ a.toInt := by
            have : ¬ a.toInt = -1 := fun q => c2 (Int32.toInt_inj.mp (by rw [z_m1]; exact q))
            omega
          rw [e_drinks h ⟨hb, c'⟩, e_drinks h ⟨a0, ha.2⟩]
      · rw [if_neg c1, if_pos c1]
theorem e_buys (h : RT τ σ) (hS : SL σ 0) : f_X5_buys τ = f_X6_buyer σ := by
  have hp := SL_p hS
  unfold f_X5_buys f_X6_buyer
  rw [e_buys_L h hS _ _ _ (by rw [z_0]; omega) (by rw [z_m1]; omega)]
theorem buyer_L (hS : SL σ 0) : ∀ (n : Nat) (a b : Int32), 0 ≤ b.toInt → (-1 ≤ a.toInt ∧ a.toInt < (ga σ 0 0).toInt) → -1 ≤ (f_X6_buyer_L4 σ n a b).1.toInt ∧ (f_X6_buyer_L4 σ n a b).1.toInt < (ga σ 0 0).toInt := by
  intro n
  induction n with
  | zero => intro a b _ ha; exact ha
  | succ n ih =>
    intro a b hb ha
    rw [f_X6_buyer_L4]
    have hp := SL_p hS
    by_cases c : ga σ 0 0 ≤ b
    · rw [if_pos c]; exact ha
    · rw [if_neg c]
      have c' := c_nle c
      have ih1 := ih a (b + 1) (by rw [inc1 (by omega) (by omega)]; omega) ha
      have ih2 := ih b (b + 1) (by rw [inc1 (by omega) (by omega)]; omega) (by omega)
      dsimp only
      repeat' split
      all_goals first | exact ih1 | exact ih2
theorem buyer_rng (hS : SL σ 0) : -1 ≤ (f_X6_buyer σ).toInt ∧ (f_X6_buyer σ).toInt < (ga σ 0 0).toInt := by
  have hp := SL_p hS
  exact buyer_L hS _ _ _ (by rw [z_0]; omega) (by rw [z_m1]; omega)
/-- what the table's calls leave of the reference -/
abbrev KP (σ u : MS) : Prop := Fr [] [] (fun j => j = 5 ∨ j = 6 ∨ (12 ≤ j ∧ j < 60) ∨ (92 ≤ j ∧ j < 128)) (fun _ => False) σ u
theorem e_rounds_L {N : Int} (y : Int32) : ∀ (n : Nat) (b : Int32) (τ σ : MS), RT τ σ → SL σ 0 → PB σ N → 0 ≤ b.toInt → (RT (f_X5_round_L13 y n b τ).2 (f_X6_rounds_L14 y n b σ).2 ∧ SL (f_X6_rounds_L14 y n b σ).2 0 ∧ PB (f_X6_rounds_L14 y n b σ).2 N ∧ ga (f_X6_rounds_L14 y n b σ).2 0 0 = ga σ 0 0) ∧ KP σ (f_X6_rounds_L14 y n b σ).2 := by
  intro n
  induction n with
  | zero => intro b τ σ h hS hB _; exact ⟨⟨h, hS, hB, rfl⟩, Fr.rf⟩
  | succ n ih =>
    intro b τ σ h hS hB hb
    rw [f_X5_round_L13, f_X6_rounds_L14, h.n]
    have hp := SL_p hS
    by_cases c : ga σ 0 0 ≤ b
    · rw [if_pos c, if_pos c]; exact ⟨⟨h, hS, hB, rfl⟩, Fr.rf⟩
    · rw [if_neg c, if_neg c]
      have c' := c_nle c
      have ei := po_i (p := b) (k := 6) (by omega) z_6 (by omega)
      dsimp only
      have h1 : RT (sa τ 13 b (ga τ 13 b + ((gi τ 8 >>> (b &&& 31)) &&& 1))) (sa σ 0 (f_X6_personRow b + 6) (ga σ 0 (f_X6_personRow b + 6) + ((ga σ 0 8 >>> (b &&& 31)) &&& 1))) := by
        refine RT_drink h hS ⟨hb, c'⟩ z_6 (Or.inl ⟨rfl, ?_⟩)
        rw [(h.p hb c').2.2.2.2.2.2, h.i, Int32.sub_eq_add_neg, Int32.sub_eq_add_neg, Int32.add_assoc, Int32.add_assoc, Int32.add_comm (-_)]
      have q := ih (b + 1) _ _ h1 (SL_po hS (by omega) z_6 (by omega)) (PB_ne hB (by omega) (by omega)) (by rw [inc1 (by omega) (by omega)]; omega)
      exact ⟨⟨q.1.1, q.1.2.1, q.1.2.2.1, q.1.2.2.2.trans (at_ne (by rw [z_0]; omega) (by omega) (by rw [z_0]; omega))⟩, Fr.tr (Fr_sa ei (by omega) (by omega) Fr.rf) q.2⟩
theorem e_round {N : Int} (h : RT τ σ) (hS : SL σ 0) (hB : PB σ N) : (f_X5_round τ).2 = (f_X6_rounds σ).2 ∧ (RT (f_X5_round τ).1 (f_X6_rounds σ).1 ∧ SL (f_X6_rounds σ).1 0 ∧ PB (f_X6_rounds σ).1 N) ∧ KP σ (f_X6_rounds σ).1 := by
  have hp := SL_p hS
  have hr := buyer_rng hS
  unfold f_X5_round f_X6_rounds
  rw [e_buys h hS]
  dsimp only
  by_cases c : f_X6_buyer σ = -1
  · rw [if_neg (by rw [c]; decide), if_pos c]
    exact ⟨rfl, ⟨h, hS, hB⟩, Fr.rf⟩
  · have c1 : ¬ (f_X6_buyer σ).toInt = -1 := fun q => c (Int32.toInt_inj.mp (by rw [z_m1]; exact q))
    rw [if_pos (Int32.le_iff_toInt_le.mpr (by rw [z_0]; omega)), if_neg c]
    obtain ⟨⟨h1, h2, h3, h4⟩, h5⟩ := e_rounds_L (N := N) (f_X6_buyer σ) 7 0 τ σ h hS hB (by rw [z_0]; omega)
    dsimp only
    refine ⟨rfl, ?_⟩
    have ei := po_i (p := f_X6_buyer σ) (k := 7) (by omega) z_7 (by omega)
    have hin := SL_in h2
    have g1 : RT (sa (f_X5_round_L13 (f_X6_buyer σ) 7 0 τ).2 13 (f_X6_buyer σ) (ga (f_X5_round_L13 (f_X6_buyer σ) 7 0 τ).2 13 (f_X6_buyer σ) - f_J11_bitCount (gi (f_X5_round_L13 (f_X6_buyer σ) 7 0 τ).2 8))) (sa (f_X6_rounds_L14 (f_X6_buyer σ) 7 0 σ).2 0 (f_X6_personRow (f_X6_buyer σ) + 7) (ga (f_X6_rounds_L14 (f_X6_buyer σ) 7 0 σ).2 0 (f_X6_personRow (f_X6_buyer σ) + 7) + f_X6_bits (ga (f_X6_rounds_L14 (f_X6_buyer σ) 7 0 σ).2 0 8))) := by
      refine RT_drink h1 h2 ⟨by omega, by rw [h4]; omega⟩ z_7 (Or.inr ⟨rfl, ?_⟩)
      rw [(h1.p (p := f_X6_buyer σ) (by omega) (by rw [h4]; omega)).2.2.2.2.2.2, h1.i, bc_bits hin]
      simp only [Int32.sub_eq_add_neg, Int32.neg_add, Int32.add_assoc]
    have g2 := SL_po (v := ga (f_X6_rounds_L14 (f_X6_buyer σ) 7 0 σ).2 0 (f_X6_personRow (f_X6_buyer σ) + 7) + f_X6_bits (ga (f_X6_rounds_L14 (f_X6_buyer σ) 7 0 σ).2 0 8)) h2 (p := f_X6_buyer σ) (k := 7) (by omega) z_7 (by omega)
    have g3 := PB_ne (v := ga (f_X6_rounds_L14 (f_X6_buyer σ) 7 0 σ).2 0 (f_X6_personRow (f_X6_buyer σ) + 7) + f_X6_bits (ga (f_X6_rounds_L14 (f_X6_buyer σ) 7 0 σ).2 0 8)) h3 (i := f_X6_personRow (f_X6_buyer σ) + 7) (by omega) (by omega)
    refine ⟨⟨?_, ?_, ?_⟩, ?_⟩
    · have := RT_num (k := 6) (i := 5) (v := gi (sa (f_X5_round_L13 (f_X6_buyer σ) 7 0 τ).2 13 (f_X6_buyer σ) (ga (f_X5_round_L13 (f_X6_buyer σ) 7 0 τ).2 13 (f_X6_buyer σ) - f_J11_bitCount (gi (f_X5_round_L13 (f_X6_buyer σ) 7 0 τ).2 8))) 6 + 1) g1 g2 (by decide)
      rw [g1.1.2.2.2.2.2.1] at this ⊢
      exact this
    · exact SL_sa z_5 (by omega) (by omega) (fun _ _ => by unfold CV; omega) g2
    · exact PB_ne g3 (by rw [z_5]; omega) (by rw [z_5]; omega)
    · exact Fr_sa z_5 (Or.inl rfl) (by omega) (Fr_sa ei (by omega) (by omega) h5)
end RT3
section RT4
variable {τ σ : MS}
theorem e_lends {N : Int} (h : RT τ σ) (hS : SL σ 0) (hB : PB σ N) {a b m : Int32} (ha : 0 ≤ a.toInt ∧ a.toInt ≤ 5) (hb : 0 ≤ b.toInt ∧ b.toInt ≤ 5) (hm : 0 ≤ m.toInt ∧ m.toInt ≤ 9999) : (f_X5_lends τ a b m).2 = (f_X6_lends σ a b m).2 ∧ (RT (f_X5_lends τ a b m).1 (f_X6_lends σ a b m).1 ∧ SL (f_X6_lends σ a b m).1 0 ∧ PB (f_X6_lends σ a b m).1 N) ∧ KP σ (f_X6_lends σ a b m).1 := by
  unfold f_X5_lends f_X6_lends
  dsimp only
  rw [h.ow hb ha]
  have ei := dr_i hb ha
  have ho := SL_ow hS hb ha
  have es : (ga σ 0 (f_X6_debtRow b a) + m).toInt = (ga σ 0 (f_X6_debtRow b a)).toInt + m.toInt := i_add rfl rfl (by omega)
  by_cases c : ga σ 0 (f_X6_debtRow b a) + m ≤ 999999
  · rw [if_pos c, if_pos c]
    have c' := c_le c
    rw [show (999999 : Int32).toInt = 999999 from rfl] at c'
    exact ⟨rfl, ⟨RT_owe h hS hb ha, SL_owe hS hb ha (by omega), PB_ne hB (by omega) (by omega)⟩, Fr_sa ei (by omega) (by omega) Fr.rf⟩
  · rw [if_neg c, if_neg c]
    exact ⟨rfl, ⟨h, hS, hB⟩, Fr.rf⟩
theorem jmax0 {x : Int32} {v : Int} (h : x.toInt = v) : (jmax 0 x).toInt = (if 0 < v then v else 0) := by
  unfold jmax
  split
  · rename_i c; have := c_lt c; rw [z_0, h] at this; rw [h, if_pos this]
  · rename_i c; have := c_nlt c; rw [z_0, h] at this; rw [z_0, if_neg (by omega)]
theorem e_gives {N : Int} (h : RT τ σ) (hS : SL σ 0) (hB : PB σ N) {a b m : Int32} (ha : 0 ≤ a.toInt ∧ a.toInt ≤ 5) (hb : 0 ≤ b.toInt ∧ b.toInt ≤ 5) (hm : 0 ≤ m.toInt ∧ m.toInt ≤ 9999) : (f_X5_gives τ a b m).2 = ga (f_X6_gifts σ a b m) 0 (f_X6_debtRow b a) ∧ (RT (f_X5_gives τ a b m).1 (f_X6_gifts σ a b m) ∧ SL (f_X6_gifts σ a b m) 0 ∧ PB (f_X6_gifts σ a b m) N) ∧ KP σ (f_X6_gifts σ a b m) := by
  have ei := dr_i hb ha
  have ho := SL_ow hS hb ha
  have es : (ga σ 0 (f_X6_debtRow b a) - m).toInt = (ga σ 0 (f_X6_debtRow b a)).toInt - m.toInt := i_sub rfl rfl (by omega)
  have ej := jmax0 es
  have g1 := RT_owe (v := jmax 0 (ga σ 0 (f_X6_debtRow b a) - m)) h hS hb ha
  have g2 := SL_owe (v := jmax 0 (ga σ 0 (f_X6_debtRow b a) - m)) hS hb ha (by rw [ej]; split <;> omega)
  have g3 := PB_ne (v := jmax 0 (ga σ 0 (f_X6_debtRow b a) - m)) hB (i := f_X6_debtRow b a) (by omega) (by omega)
  have g4 := RT_num (k := 7) (i := 6) (v := gi (f_X5_owe τ b a (jmax 0 (ga σ 0 (f_X6_debtRow b a) - m))) 7 + 1) g1 g2 (by decide)
  have e7 : gi (f_X5_owe τ b a (jmax 0 (ga σ 0 (f_X6_debtRow b a) - m))) 7 = ga (sa σ 0 (f_X6_debtRow b a) (jmax 0 (ga σ 0 (f_X6_debtRow b a) - m))) 0 6 := g1.1.2.2.2.2.2.2.1
  unfold f_X5_gives f_X6_gifts
  dsimp only
  rw [h.ow hb ha, ← e7]
  exact ⟨g4.ow hb ha, ⟨g4, SL_sa z_6 (by omega) (by omega) (fun _ _ => by unfold CV; omega) g2, PB_ne g3 (by rw [z_6]; omega) (by rw [z_6]; omega)⟩, Fr_sa z_6 (Or.inr (Or.inl rfl)) (by omega) (Fr_sa ei (by omega) (by omega) Fr.rf)⟩
/-- the bill is paid by y: each owes him more -/
theorem due_A {τ τ' : MS} (h1 : ∀ k, gi τ' k = gi τ k) (h2 : ∀ k, k ≠ 12 → ∀ x, ga τ' k x = ga τ k x) (p s : Int32) : f_X5_due τ' p s = f_X5_due τ p s := by
  have b1 : ∀ (n : Nat) (a b : Int32), f_X5_bill_L4 τ' n a b = f_X5_bill_L4 τ n a b := by
    intro n
    induction n with
    | zero => intro a b; rfl
    | succ n ih => intro a b; simp only [f_X5_bill_L4, h1, h2 9 (by decide), ih]
  have b2 : ∀ (y : Int32) (n : Nat) (a b : Int32), f_X5_had_L4 τ' y n a b = f_X5_had_L4 τ y n a b := by
    intro y n
    induction n with
    | zero => intro a b; rfl
    | succ n ih => intro a b; simp only [f_X5_had_L4, h1, h2 9 (by decide), h2 10 (by decide), ih]
  have g : f_X5_guests τ' = f_X5_guests τ := gu_same (h1 1) (fun x => h2 26 (by decide) x)
  have hh : f_X5_heads τ' = f_X5_heads τ := by simp only [f_X5_heads, h1, g]
  have b3 : ∀ (y : Int32) (n : Nat) (a b : Int32), f_X5_units_L9 τ' y n a b = f_X5_units_L9 τ y n a b := by
    intro y n
    induction n with
    | zero => intro a b; rfl
    | succ n ih => intro a b; simp only [f_X5_units_L9, h1, h2 25 (by decide), ih]
  have e4 : ∀ p, f_X5_eaten τ' p = f_X5_eaten τ p := fun p => by simp only [f_X5_eaten, f_X5_had, b2, h1]
  have b5 : ∀ (y : Int32) (n : Nat) (a b : Int32), f_X5_due_L53 τ' y n a b = f_X5_due_L53 τ y n a b := by
    intro y n
    induction n with
    | zero => intro a b; rfl
    | succ n ih => intro a b; simp only [f_X5_due_L53, h1, hh, e4, ih]
  simp only [f_X5_due, f_X5_bill, f_X5_units, b1, b3, hh, e4, b5]
theorem owe_due (τ : MS) (a b v p s : Int32) : f_X5_due (f_X5_owe τ a b v) p s = f_X5_due τ p s := due_A (τ := τ) (τ' := f_X5_owe τ a b v) (fun _ => rfl) (fun k hk x => ga_sa_k hk) p s
theorem e_pays_L2 {N : Int} (y : Int32) (hy : 0 ≤ y.toInt ∧ y.toInt ≤ 5) : ∀ (n : Nat) (b : Int32) (τ σ : MS), RT τ σ → SL σ 0 → PB σ N → 0 ≤ b.toInt → (ga σ 0 0).toInt < b.toInt + n → (∀ o : Int32, b.toInt ≤ o.toInt → o.toInt < (ga σ 0 0).toInt → ¬ o = y → 0 ≤ (ga σ 0 (f_X6_debtRow o y) + f_X6_dueBy σ o (ga σ 0 3)).toInt ∧ (ga σ 0 (f_X6_debtRow o y) + f_X6_dueBy σ o (ga σ 0 3)).toInt ≤ 999999) →
    (RT (f_X5_pays_L46 y n b τ).2 (f_X6_pays_L55 y n b σ).2 ∧ SL (f_X6_pays_L55 y n b σ).2 0 ∧ PB (f_X6_pays_L55 y n b σ).2 N ∧ ga (f_X6_pays_L55 y n b σ).2 0 0 = ga σ 0 0) ∧ KP σ (f_X6_pays_L55 y n b σ).2 := by
  intro n
  induction n with
  | zero => intro b τ σ h hS hB _ _ _; exact ⟨⟨h, hS, hB, rfl⟩, Fr.rf⟩
  | succ n ih =>
    intro b τ σ h hS hB hb hn hO
    rw [f_X5_pays_L46, f_X6_pays_L55, h.n]
    have hp := SL_p hS
    by_cases c : ga σ 0 0 ≤ b
    · rw [if_pos c, if_pos c]; exact ⟨⟨h, hS, hB, rfl⟩, Fr.rf⟩
    · rw [if_neg c, if_neg c]
      have c' := c_nle c
      have eb : (b + 1).toInt = b.toInt + 1 := inc1 (by omega) (by omega)
      by_cases c2 : b = y
      · rw [if_pos c2, if_pos c2]
        exact ih (b + 1) τ σ h hS hB (by omega) (by omega) (fun o h1 h2 h3 => hO o (by omega) h2 h3)
      · rw [if_neg c2, if_neg c2]
        dsimp only
        have ei := dr_i (a := b) (b := y) (by omega) hy
        have o1 := hO b (by omega) c' c2
        rw [h.ow (a := b) (b := y) (by omega) hy, e_due h hS, h.s]
        have g1 := RT_owe (v := ga σ 0 (f_X6_debtRow b y) + f_X6_dueBy σ b (ga σ 0 3)) h hS (a := b) (b := y) (by omega) hy
        have g2 := SL_owe (v := ga σ 0 (f_X6_debtRow b y) + f_X6_dueBy σ b (ga σ 0 3)) hS (a := b) (b := y) (by omega) hy o1
        have g0 : ga (sa σ 0 (f_X6_debtRow b y) (ga σ 0 (f_X6_debtRow b y) + f_X6_dueBy σ b (ga σ 0 3))) 0 0 = ga σ 0 0 := at_ne (by rw [z_0]; omega) (by omega) (by rw [z_0]; omega)
        have g3 : ga (sa σ 0 (f_X6_debtRow b y) (ga σ 0 (f_X6_debtRow b y) + f_X6_dueBy σ b (ga σ 0 3))) 0 3 = ga σ 0 3 := at_ne (by rw [z_3]; omega) (by omega) (by rw [z_3]; omega)
        have q := ih (b + 1) _ _ g1 g2 (PB_ne hB (by omega) (by omega)) (by omega) (by rw [g0]; omega) (fun o h1 h2 h3 => by
          rw [g0] at h2
          have d1 : f_X6_dueBy (sa σ 0 (f_X6_debtRow b y) (ga σ 0 (f_X6_debtRow b y) + f_X6_dueBy σ b (ga σ 0 3))) o (ga σ 0 3) = f_X6_dueBy σ o (ga σ 0 3) := by
            rw [← e_due g1 g2, owe_due, e_due h hS]
          have ej := dr_i (a := o) (b := y) (by omega) hy
          rw [g3, d1, at_ne (by omega) (by omega) (by omega)]
          exact hO o (by omega) h2 h3)
        exact ⟨⟨q.1.1, q.1.2.1, q.1.2.2.1, q.1.2.2.2.trans g0⟩, Fr.tr (Fr_sa ei (by omega) (by omega) Fr.rf) q.2⟩
theorem e_pays_L {N : Int} (hN : N ≤ 1000000) (y : Int32) (h : RT τ σ) (hS : SL σ 0) (hB : PB σ N) (hy : 0 ≤ y.toInt ∧ y.toInt < (ga σ 0 0).toInt) (hdue : ∀ o : Int32, 0 ≤ o.toInt → o.toInt < (ga σ 0 0).toInt → 0 ≤ (f_X6_dueBy σ o (ga σ 0 3)).toInt ∧ (f_X6_dueBy σ o (ga σ 0 3)).toInt ≤ 1000000) : ∀ (n : Nat) (b : Int32), 0 ≤ b.toInt → b.toInt ≤ (ga σ 0 0).toInt → (ga σ 0 0).toInt < b.toInt + n → (∀ o : Int32, 0 ≤ o.toInt → o.toInt < b.toInt → o.toInt < (ga σ 0 0).toInt → ¬ o = y → 0 ≤ (ga σ 0 (f_X6_debtRow o y) + f_X6_dueBy σ o (ga σ 0 3)).toInt ∧ (ga σ 0 (f_X6_debtRow o y) + f_X6_dueBy σ o (ga σ 0 3)).toInt ≤ 999999) →
    (f_X5_pays_L2 τ y n b).2 = (f_X6_pays_L2 σ y n b).2 ∧ (RT (f_X5_pays_L2 τ y n b).1 (f_X6_pays_L2 σ y n b).1 ∧ SL (f_X6_pays_L2 σ y n b).1 0 ∧ PB (f_X6_pays_L2 σ y n b).1 (N + 1) ∧ ga (f_X6_pays_L2 σ y n b).1 0 0 = ga σ 0 0) ∧ KP σ (f_X6_pays_L2 σ y n b).1 := by
  intro n
  induction n with
  | zero => intro b hb hb2 hn _; omega
  | succ n ih =>
    intro b hb hb2 hn hO
    rw [f_X5_pays_L2, f_X6_pays_L2, h.n]
    have hp := SL_p hS
    by_cases c : ga σ 0 0 ≤ b
    · rw [if_pos c, if_pos c]
      have c' := c_le c
      obtain ⟨⟨h1, h2, h3, h4⟩, h5⟩ := e_pays_L2 (N := N) y (by omega) 7 0 τ σ h hS hB (by rw [z_0]; omega) (by rw [z_0]; omega) (fun o q1 q2 q3 => hO o (by rw [z_0] at q1; exact q1) (by omega) q2 q3)
      dsimp only
      have ei := po_i (p := y) (k := 5) (by omega) z_5 (by omega)
      have q := (h1.p (p := y) hy.1 (by rw [h4]; exact hy.2)).2.2.2.2.2.1
      have qb := h3 y (by omega)
      refine ⟨rfl, ⟨?_, SL_po h2 (by omega) z_5 (by omega), PB_inc h3 (by omega) (inc1 (by omega) (by omega)), ?_⟩, Fr_sa ei (by omega) (by omega) h5⟩
      · exact RT_paid h1 h2 ⟨hy.1, by rw [h4]; exact hy.2⟩ (by rw [q])
      · exact (at_ne (by rw [z_0]; omega) (by omega) (by rw [z_0]; omega)).trans h4
    · rw [if_neg c, if_neg c]
      have c' := c_nle c
      have eb : (b + 1).toInt = b.toInt + 1 := inc1 (by omega) (by omega)
      by_cases c2 : b = y
      · rw [if_pos c2, if_pos c2]
        exact ih (b + 1) (by omega) (by omega) (by omega) (fun o q1 q2 q3 q4 => by
          by_cases z : o.toInt = b.toInt
          · exact absurd ((Int32.toInt_inj.mp z).trans c2) q4
          · exact hO o q1 (by omega) q3 q4)
      · rw [if_neg c2, if_neg c2]
        dsimp only
        rw [h.ow (a := b) (b := y) (by omega) (by omega), e_due h hS, h.s]
        have ho := SL_ow hS (a := b) (b := y) (by omega) (by omega)
        have hd := hdue b hb c'
        have es : (ga σ 0 (f_X6_debtRow b y) + f_X6_dueBy σ b (ga σ 0 3)).toInt = (ga σ 0 (f_X6_debtRow b y)).toInt + (f_X6_dueBy σ b (ga σ 0 3)).toInt := i_add rfl rfl (by omega)
        by_cases c3 : ga σ 0 (f_X6_debtRow b y) + f_X6_dueBy σ b (ga σ 0 3) ≤ 999999
        · rw [if_pos c3, if_pos c3]
          have c3' := c_le c3
          rw [show (999999 : Int32).toInt = 999999 from rfl] at c3'
          exact ih (b + 1) (by omega) (by omega) (by omega) (fun o q1 q2 q3 q4 => by
            by_cases z : o.toInt = b.toInt
            · have := Int32.toInt_inj.mp z
              subst this
              omega
            · exact hO o q1 (by omega) q3 q4)
        · rw [if_neg c3, if_neg c3]
          exact ⟨rfl, ⟨h, hS, hB.mono (by omega), rfl⟩, Fr.rf⟩
end RT4
section RT5
variable {τ σ : MS}
theorem bits_rk : ∀ n, n < 64 → 0 ≤ (f_X6_bits (nI n)).toInt ∧ (f_X6_bits (nI n)).toInt ≤ 6 := by decide +kernel
theorem bits_n6 {s p : Int32} (hs : 0 ≤ s.toInt ∧ s.toInt ≤ 63) (hp : 0 ≤ p.toInt ∧ p.toInt ≤ 31) (c : ¬ (s >>> (p &&& 31)) &&& 1 = 0) : 1 ≤ (f_X6_bits s).toInt ∧ (f_X6_bits s).toInt ≤ 6 := by
  have h := bc_ne hs hp c
  rw [bc_bits hs] at h
  have h2 : ¬ (f_X6_bits s).toInt = 0 := fun q => h (Int32.toInt_inj.mp (by rw [z_0]; exact q))
  obtain ⟨j, hj, rfl⟩ := small_nI (n := 63) hs
  have := bits_rk j (by omega)
  omega
theorem part_rng {a s p : Int32} (ha : 0 ≤ a.toInt ∧ a.toInt ≤ 1000000) (hs : 0 ≤ s.toInt ∧ s.toInt ≤ 63) (hp : 0 ≤ p.toInt ∧ p.toInt ≤ 31) : 0 ≤ (f_X6_partOf a s p).toInt ∧ (f_X6_partOf a s p).toInt ≤ a.toInt + 1 := by
  unfold f_X6_partOf
  dsimp only
  split
  · rw [z_0]; omega
  · rename_i c
    have hb := bits_n6 hs hp c
    have hd : (a / f_X6_bits s).toInt = a.toInt / (f_X6_bits s).toInt := idiv_toInt ha.1 hb.1
    have h0 : 0 ≤ a.toInt / (f_X6_bits s).toInt := Int.ediv_nonneg ha.1 (by omega)
    have h1 : a.toInt / (f_X6_bits s).toInt ≤ a.toInt := Int.ediv_le_self _ ha.1
    split
    · rw [i_add hd z_0 (by omega)]; omega
    · rw [i_add hd z_1 (by omega)]; omega
theorem bill_L (hS : SL σ 0) : ∀ (n : Nat) (a b : Int32), 0 ≤ b.toInt → 0 ≤ a.toInt → a.toInt ≤ 1000 * b.toInt → b.toInt ≤ 16 → 0 ≤ (f_X6_bill_L4 σ n a b).1.toInt ∧ (f_X6_bill_L4 σ n a b).1.toInt ≤ 16000 := by
  intro n
  induction n with
  | zero => intro a b h0 h1 h2 h3; show 0 ≤ a.toInt ∧ a.toInt ≤ 16000; omega
  | succ n ih =>
    intro a b h0 h1 h2 h3
    rw [f_X6_bill_L4]
    have hd := SL_d hS
    by_cases c : ga σ 0 2 ≤ b
    · rw [if_pos c]; show 0 ≤ a.toInt ∧ a.toInt ≤ 16000; omega
    · rw [if_neg c]
      have c' := c_nle c
      have q := (SL_ds hS (d := b) (by omega)).1
      have e : (a + ga σ 0 (60 + 2 * b)).toInt = a.toInt + (ga σ 0 (60 + 2 * b)).toInt := i_add rfl rfl (by omega)
      have eb : (b + 1).toInt = b.toInt + 1 := inc1 (by omega) (by omega)
      exact ih _ _ (by omega) (by omega) (by omega) (by omega)
theorem bill_rng (hS : SL σ 0) : 0 ≤ (f_X6_bill σ).toInt ∧ (f_X6_bill σ).toInt ≤ 16000 := by
  unfold f_X6_bill
  exact bill_L hS _ _ _ (by rw [z_0]; omega) (by rw [z_0]; omega) (by rw [z_0]; omega) (by rw [z_0]; omega)
theorem com_L (hS : SL σ 0) : ∀ (n : Nat) (a b : Int32), 0 ≤ b.toInt → 0 ≤ a.toInt → a.toInt ≤ 1000 * b.toInt → b.toInt ≤ 16 → 0 ≤ (f_X6_commons_L4 σ n a b).1.toInt ∧ (f_X6_commons_L4 σ n a b).1.toInt ≤ 16000 := by
  intro n
  induction n with
  | zero => intro a b h0 h1 h2 h3; show 0 ≤ a.toInt ∧ a.toInt ≤ 16000; omega
  | succ n ih =>
    intro a b h0 h1 h2 h3
    rw [f_X6_commons_L4]
    have hd := SL_d hS
    by_cases c : ga σ 0 2 ≤ b
    · rw [if_pos c]; show 0 ≤ a.toInt ∧ a.toInt ≤ 16000; omega
    · rw [if_neg c]
      have c' := c_nle c
      have q := (SL_ds hS (d := b) (by omega)).1
      have e : (a + ga σ 0 (60 + 2 * b)).toInt = a.toInt + (ga σ 0 (60 + 2 * b)).toInt := i_add rfl rfl (by omega)
      have e0 : (a + 0).toInt = a.toInt := by rw [Int32.add_zero]
      have eb : (b + 1).toInt = b.toInt + 1 := inc1 (by omega) (by omega)
      dsimp only
      split
      · exact ih _ _ (by omega) (by omega) (by omega) (by omega)
      · exact ih _ _ (by omega) (by omega) (by omega) (by omega)
theorem com_rng (hS : SL σ 0) : 0 ≤ (f_X6_commons σ).toInt ∧ (f_X6_commons σ).toInt ≤ 16000 := by
  unfold f_X6_commons
  exact com_L hS _ _ _ (by rw [z_0]; omega) (by rw [z_0]; omega) (by rw [z_0]; omega) (by rw [z_0]; omega)
theorem eat_L (hS : SL σ 0) (p : Int32) : ∀ (n : Nat) (a b : Int32), 0 ≤ b.toInt → 0 ≤ a.toInt → a.toInt ≤ 16001 + 1000 * b.toInt → b.toInt ≤ 16 → 0 ≤ (f_X6_eatenBy_L15 σ p n a b).1.toInt ∧ (f_X6_eatenBy_L15 σ p n a b).1.toInt ≤ 32001 := by
  intro n
  induction n with
  | zero => intro a b h0 h1 h2 h3; show 0 ≤ a.toInt ∧ a.toInt ≤ 32001; omega
  | succ n ih =>
    intro a b h0 h1 h2 h3
    rw [f_X6_eatenBy_L15]
    have hd := SL_d hS
    by_cases c : ga σ 0 2 ≤ b
    · rw [if_pos c]; show 0 ≤ a.toInt ∧ a.toInt ≤ 32001; omega
    · rw [if_neg c]
      have c' := c_nle c
      have q := (SL_ds hS (d := b) (by omega)).1
      have e : (a + ga σ 0 (60 + 2 * b)).toInt = a.toInt + (ga σ 0 (60 + 2 * b)).toInt := i_add rfl rfl (by omega)
      have e0 : (a + 0).toInt = a.toInt := by rw [Int32.add_zero]
      have eb : (b + 1).toInt = b.toInt + 1 := inc1 (by omega) (by omega)
      dsimp only
      split
      · exact ih _ _ (by omega) (by omega) (by omega) (by omega)
      · exact ih _ _ (by omega) (by omega) (by omega) (by omega)
theorem eat_rng (hS : SL σ 0) {p : Int32} (hp : 0 ≤ p.toInt ∧ p.toInt ≤ 5) : 0 ≤ (f_X6_eatenBy σ p).toInt ∧ (f_X6_eatenBy σ p).toInt ≤ 32001 := by
  have hc := com_rng hS
  have q := part_rng (p := p) (a := f_X6_commons σ) (s := f_X6_everybody σ) (by omega) (ev_rng (SL_p hS)) (by omega)
  unfold f_X6_eatenBy
  exact eat_L hS p _ _ _ (by rw [z_0]; omega) q.1 (by rw [z_0]; omega) (by rw [z_0]; omega)
theorem free_L (hS : SL σ 0) (y : Int32) : ∀ (n : Nat) (a b : Int32), 0 ≤ b.toInt → 0 ≤ a.toInt → a.toInt ≤ 32001 * b.toInt → b.toInt ≤ 6 → 0 ≤ (f_X6_dueBy_L40 σ y n a b).1.toInt ∧ (f_X6_dueBy_L40 σ y n a b).1.toInt ≤ 192006 := by
  intro n
  induction n with
  | zero => intro a b h0 h1 h2 h3; show 0 ≤ a.toInt ∧ a.toInt ≤ 192006; omega
  | succ n ih =>
    intro a b h0 h1 h2 h3
    rw [f_X6_dueBy_L40]
    have hd := SL_p hS
    by_cases c : ga σ 0 0 ≤ b
    · rw [if_pos c]; show 0 ≤ a.toInt ∧ a.toInt ≤ 192006; omega
    · rw [if_neg c]
      have c' := c_nle c
      have q := eat_rng hS (p := b) (by omega)
      have e : (a + f_X6_eatenBy σ b).toInt = a.toInt + (f_X6_eatenBy σ b).toInt := i_add rfl rfl (by omega)
      have e0 : (a + 0).toInt = a.toInt := by rw [Int32.add_zero]
      have eb : (b + 1).toInt = b.toInt + 1 := inc1 (by omega) (by omega)
      dsimp only
      split
      · exact ih _ _ (by omega) (by omega) (by omega) (by omega)
      · exact ih _ _ (by omega) (by omega) (by omega) (by omega)
theorem due_rng (hS : SL σ 0) {p : Int32} (hp : 0 ≤ p.toInt ∧ p.toInt ≤ 5) (s : Int32) : 0 ≤ (f_X6_dueBy σ p s).toInt ∧ (f_X6_dueBy σ p s).toInt ≤ 300000 := by
  have hb := bill_rng hS
  have q1 := part_rng (p := p) (a := f_X6_bill σ) (s := f_X6_heads σ) (by omega) (hd_rng hS) (by omega)
  have q2 := part_rng (p := p) (a := f_X6_bill σ) (s := f_X6_units σ) (by omega) (un_rng hS) (by omega)
  have q3 := free_L hS p 7 0 0 (by rw [z_0]; omega) (by rw [z_0]; omega) (by rw [z_0]; omega) (by rw [z_0]; omega)
  have q4 := part_rng (p := p) (a := (f_X6_dueBy_L40 σ p 7 0 0).1) (s := f_X6_heads σ) (by omega) (hd_rng hS) (by omega)
  have q5 := eat_rng hS hp
  have q6 : (f_X6_eatenBy σ p + f_X6_partOf (f_X6_dueBy_L40 σ p 7 0 0).1 (f_X6_heads σ) p).toInt = (f_X6_eatenBy σ p).toInt + (f_X6_partOf (f_X6_dueBy_L40 σ p 7 0 0).1 (f_X6_heads σ) p).toInt := i_add rfl rfl (by omega)
  unfold f_X6_dueBy
  dsimp only
  repeat' split
  all_goals first | omega | (rw [z_0]; omega)
theorem e_pays {N : Int} (hN : N ≤ 1000000) (h : RT τ σ) (hS : SL σ 0) (hB : PB σ N) {y : Int32} (hy : 0 ≤ y.toInt ∧ y.toInt < (ga σ 0 0).toInt) : (f_X5_pays τ y).2 = (f_X6_pays σ y).2 ∧ (RT (f_X5_pays τ y).1 (f_X6_pays σ y).1 ∧ SL (f_X6_pays σ y).1 0 ∧ PB (f_X6_pays σ y).1 (N + 1) ∧ ga (f_X6_pays σ y).1 0 0 = ga σ 0 0) ∧ KP σ (f_X6_pays σ y).1 := by
  have hp := SL_p hS
  unfold f_X5_pays f_X6_pays
  exact e_pays_L hN y h hS hB hy (fun o h1 h2 => by have := due_rng hS (p := o) (by omega) (ga σ 0 3); omega) 7 0 (by rw [z_0]; omega) (by rw [z_0]; have := SL_p hS; omega) (by rw [z_0]; omega) (fun o h1 h2 => by rw [z_0] at h2; omega)
end RT5
