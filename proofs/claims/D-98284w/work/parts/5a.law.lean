/-! CALL BY CALL: chain: who can be come to by debts -/
set_option maxRecDepth 100000
def subB (x y : Nat) : Prop := ∀ j, x.testBit j = true → y.testBit j = true
theorem subB.rf {x : Nat} : subB x x := fun _ h => h
theorem subB.tr {x y z : Nat} (h : subB x y) (g : subB y z) : subB x z := fun j q => g j (h j q)
theorem subB.eq {x y : Nat} (h : subB x y) (g : subB y x) : x = y := Nat.eq_of_testBit_eq fun i => by
  have a := h i
  have b := g i
  cases hx : x.testBit i with
  | true => exact (a hx).symm
  | false =>
    cases hy : y.testBit i with
    | true => rw [hx] at b; exact absurd (b hy) (by decide)
    | false => rfl
theorem subB.le {x y : Nat} (h : subB x y) : x ≤ y := by
  have e : y = x ||| y := Nat.eq_of_testBit_eq fun i => by
    rw [Nat.testBit_or]
    cases hx : x.testBit i with
    | true => rw [h i hx]; rfl
    | false => rfl
  rw [e]
  exact Nat.left_le_or
theorem subB_or {x b : Nat} : subB x (x ||| 2 ^ b) := fun j h => by rw [Nat.testBit_or, h]; rfl
theorem or_subB {x b C : Nat} (h : subB x C) (g : C.testBit b = true) : subB (x ||| 2 ^ b) C := fun j q => by
  rw [Nat.testBit_or] at q
  cases hx : x.testBit j with
  | true => exact h j hx
  | false =>
    rw [hx, Bool.false_or, Nat.testBit_two_pow] at q
    have := of_decide_eq_true q
    subst this
    exact g
theorem or_bit {x b : Nat} : (x ||| 2 ^ b).testBit b = true := by rw [Nat.testBit_or, Nat.testBit_two_pow_self, Bool.or_true]
theorem or_64 {x b : Nat} (hx : x < 64) (hb : b < 6) : x ||| 2 ^ b < 64 := Nat.or_lt_two_pow (n := 6) hx (Nat.pow_lt_pow_right (by decide) hb)
theorem bit_or : ∀ x, x < 64 → ∀ b, b < 6 → nI x ||| ((1 : Int32) <<< (nI b &&& 31)) = nI (x ||| 2 ^ b) := by decide +kernel
theorem bit_tb : ∀ x, x < 64 → ∀ b, b < 6 → ((((nI x >>> (nI b &&& 31)) &&& 1) = 1) ↔ x.testBit b = true) := by decide +kernel
theorem cnI_eq : ∀ x, x < 64 → ∀ y, y < 64 → (nI x = nI y ↔ x = y) := by decide +kernel
theorem nI_inc : ∀ x, x < 7 → nI x + 1 = nI (x + 1) := by decide +kernel
theorem cnI_le : ∀ x, x < 8 → ∀ y, y < 8 → (nI x ≤ nI y ↔ x ≤ y) := by decide +kernel
theorem bit_1 : ∀ b, b < 6 → ((1 : Int32) <<< (nI b &&& 31)) = nI (2 ^ b) ∧ 2 ^ b < 64 ∧ 2 ^ b ≠ 0 := by decide +kernel
/-- one owes another -/
def ED (μ : MS) (a b : Nat) : Prop := ¬ ga μ 0 (f_X6_debtRow (nI a) (nI b)) ≤ 0
def clo (μ : MS) (N C : Nat) : Prop := ∀ a b, a < N → b < N → a ≠ b → ED μ a b → C.testBit a = true → C.testBit b = true
section CHAIN
variable {μ : MS} {N : Nat}
theorem ch_M44 (hN : ga μ 0 0 = nI N) (h6 : N ≤ 6) (y1 y3 : Int32) {a : Nat} (ha : a < N) : ∀ (n i s : Nat), i ≤ N → N < i + n → s < 64 → ∃ s', s' < 64 ∧ (f_X6_chain_L44 μ y1 y3 (nI a) n (nI s) (nI i)).1 = nI s' ∧ subB s s' ∧ (∀ C, clo μ N C → subB s C → subB s' C) ∧ (∀ b, i ≤ b → b < N → a ≠ b → ED μ a b → s.testBit a = true → s'.testBit b = true) := by
  intro n
  induction n with
  | zero => intro i s h1 h2; omega
  | succ n ih =>
    intro i s h1 h2 hs
    rw [f_X6_chain_L44, hN]
    by_cases c : N ≤ i
    · rw [if_pos ((cnI_le N (by omega) i (by omega)).mpr c)]
      exact ⟨s, hs, rfl, subB.rf, fun C _ h => h, fun b p q => by omega⟩
    · rw [if_neg (fun q => c ((cnI_le N (by omega) i (by omega)).mp q))]
      dsimp only
      rw [nI_inc i (by omega)]
      have ci : f_X6_isIn μ (nI s) (nI a) = 0 ↔ ¬ s.testBit a = true := by rw [i_isIn, bit_tb s hs a (by omega)]
      by_cases c1 : s.testBit a = true
      · rw [if_neg (fun q => ci.mp q c1)]
        by_cases c2 : ga μ 0 (f_X6_debtRow (nI a) (nI i)) ≤ 0
        · rw [if_pos c2]
          obtain ⟨s', e1, e2, e3, e4, e5⟩ := ih (i + 1) s (by omega) (by omega) hs
          refine ⟨s', e1, e2, e3, e4, fun b p q r t w => ?_⟩
          by_cases z : i = b
          · subst z; exact absurd c2 t
          · exact e5 b (by omega) q r t w
        · rw [if_neg c2, bit_or s hs i (by omega)]
          obtain ⟨s', e1, e2, e3, e4, e5⟩ := ih (i + 1) (s ||| 2 ^ i) (by omega) (by omega) (or_64 hs (by omega))
          refine ⟨s', e1, e2, subB_or.tr e3, fun C hC h => e4 C hC (or_subB h ?_), fun b p q r t w => ?_⟩
          · by_cases z : a = i
            · subst z; exact h a c1
            · exact hC a i ha (by omega) z c2 (h a c1)
          · by_cases z : i = b
            · subst z; exact e3 i or_bit
            · exact e5 b (by omega) q r t (subB_or a w)
      · rw [if_pos (ci.mpr c1)]
        obtain ⟨s', e1, e2, e3, e4, e5⟩ := ih (i + 1) s (by omega) (by omega) hs
        exact ⟨s', e1, e2, e3, e4, fun b p q r t w => absurd w c1⟩
theorem ch_M30 (hN : ga μ 0 0 = nI N) (h6 : N ≤ 6) (y1 y3 : Int32) : ∀ (n i s : Nat), i ≤ N → N < i + n → s < 64 → ∃ s', s' < 64 ∧ (f_X6_chain_L30 μ y1 y3 n (nI s) (nI i)).1 = nI s' ∧ subB s s' ∧ (∀ C, clo μ N C → subB s C → subB s' C) ∧ (∀ a b, i ≤ a → a < N → b < N → a ≠ b → ED μ a b → s.testBit a = true → s'.testBit b = true) := by
  intro n
  induction n with
  | zero => intro i s h1 h2; omega
  | succ n ih =>
    intro i s h1 h2 hs
    rw [f_X6_chain_L30, hN]
    by_cases c : N ≤ i
    · rw [if_pos ((cnI_le N (by omega) i (by omega)).mpr c)]
      exact ⟨s, hs, rfl, subB.rf, fun C _ h => h, fun a b p q => by omega⟩
    · rw [if_neg (fun q => c ((cnI_le N (by omega) i (by omega)).mp q))]
      dsimp only
      obtain ⟨s1, f1, f2, f3, f4, f5⟩ := ch_M44 hN h6 y1 y3 (a := i) (by omega) 7 0 s (by omega) (by omega) hs
      have f2 : (f_X6_chain_L44 μ y1 y3 (nI i) 7 (nI s) 0).1 = nI s1 := f2
      rw [nI_inc i (by omega), f2]
      obtain ⟨s', e1, e2, e3, e4, e5⟩ := ih (i + 1) s1 (by omega) (by omega) f1
      refine ⟨s', e1, e2, f3.tr e3, fun C hC h => e4 C hC (f4 C hC h), fun a b p q r t w x => ?_⟩
      by_cases z : i = a
      · subst z; exact e3 b (f5 b (by omega) r t w x)
      · exact e5 a b (by omega) q r t w (f3 a x)
theorem ch_M20 (hN : ga μ 0 0 = nI N) (h6 : N ≤ 6) (y1 : Int32) : ∀ (n x o : Nat), x < 64 → o < 64 → (x = o → clo μ N x) → (64 - x) + (if x = o then 0 else 1) < n → ∃ s', s' < 64 ∧ (f_X6_chain_L20 μ y1 n (nI x) (nI o)).1 = nI s' ∧ subB x s' ∧ clo μ N s' ∧ (∀ C, clo μ N C → subB x C → subB s' C) := by
  intro n
  induction n with
  | zero => intro x o _ _ _ h; omega
  | succ n ih =>
    intro x o hx ho hc hm
    rw [f_X6_chain_L20]
    by_cases c : x = o
    · rw [if_pos ((cnI_eq x hx o ho).mpr c)]
      exact ⟨x, hx, rfl, subB.rf, hc c, fun C _ h => h⟩
    · rw [if_neg (fun q => c ((cnI_eq x hx o ho).mp q))]
      dsimp only
      rw [if_neg c] at hm
      obtain ⟨s1, f1, f2, f3, f4, f5⟩ := ch_M30 hN h6 y1 (nI x) 7 0 x (by omega) (by omega) hx
      have f2 : (f_X6_chain_L30 μ y1 (nI x) 7 (nI x) 0).1 = nI s1 := f2
      rw [f2]
      have le := f3.le
      obtain ⟨s', e1, e2, e3, e4, e5⟩ := ih s1 x f1 hx (fun q => by subst q; exact fun a b p1 p2 p3 p4 p5 => f5 a b (by omega) p1 p2 p3 p4 p5) (by
        by_cases z : s1 = x
        · rw [if_pos z]; omega
        · rw [if_neg z]; omega)
      exact ⟨s', e1, e2, f3.tr e3, e4, fun C hC h => e5 C hC (f4 C hC h)⟩
end CHAIN
section CHAINL
variable {σ : MS × MS} {μ : MS} {N : Nat} {M : Int}
theorem ch_ow (h : RL M σ μ) {a b : Nat} (ha : a < 6) (hb : b < 6) : f_X5_owes (ttb σ) (nI a) (nI b) = ga μ 0 (f_X6_debtRow (nI a) (nI b)) := by
  have q : ∀ k, k < 6 → 0 ≤ (nI k).toInt ∧ (nI k).toInt ≤ 5 := by decide +kernel
  exact h.t.ow (q a ha) (q b hb)
theorem ch_L57 (h : RL M σ μ) (hN : ga μ 0 0 = nI N) (h6 : N ≤ 6) (y1 : Int32) {a o : Nat} (ha : a < N) (ho : o < 64) : ∀ (n i s : Nat), i ≤ N → N < i + n → s < 64 → ∃ s', s' < 64 ∧ (f_X0_chain_L57 σ y1 (nI o) (nI a) n (nI s) (nI i)).1 = nI s' ∧ subB s s' ∧ (∀ C, clo μ N C → subB o C → subB s C → subB s' C) ∧ (∀ b, i ≤ b → b < N → a ≠ b → ED μ a b → o.testBit a = true → s'.testBit b = true) := by
  intro n
  induction n with
  | zero => intro i s h1 h2; omega
  | succ n ih =>
    intro i s h1 h2 hs
    rw [f_X0_chain_L57, h.t.n, hN]
    by_cases c : N ≤ i
    · rw [if_pos ((cnI_le N (by omega) i (by omega)).mpr c)]
      exact ⟨s, hs, rfl, subB.rf, fun C _ _ h => h, fun b p q => by omega⟩
    · rw [if_neg (fun q => c ((cnI_le N (by omega) i (by omega)).mp q))]
      dsimp only
      rw [nI_inc i (by omega), ch_ow h (show a < 6 by omega) (show i < 6 by omega)]
      unfold f_X0_has
      by_cases c1 : o.testBit a = true
      · rw [if_pos ((bit_tb o ho a (by omega)).mpr c1), if_neg (by decide)]
        by_cases c3 : a = i
        · rw [if_pos (by rw [c3])]
          obtain ⟨s', e1, e2, e3, e4, e5⟩ := ih (i + 1) s (by omega) (by omega) hs
          exact ⟨s', e1, e2, e3, e4, fun b p q r t w => e5 b (by omega) q r t w⟩
        · rw [if_neg (fun q => c3 ((cnI_eq a (by omega) i (by omega)).mp q))]
          by_cases c2 : ga μ 0 (f_X6_debtRow (nI a) (nI i)) ≤ 0
          · rw [if_pos c2]
            obtain ⟨s', e1, e2, e3, e4, e5⟩ := ih (i + 1) s (by omega) (by omega) hs
            refine ⟨s', e1, e2, e3, e4, fun b p q r t w => ?_⟩
            by_cases z : i = b
            · subst z; exact absurd c2 t
            · exact e5 b (by omega) q r t w
          · rw [if_neg c2, bit_or s hs i (by omega)]
            obtain ⟨s', e1, e2, e3, e4, e5⟩ := ih (i + 1) (s ||| 2 ^ i) (by omega) (by omega) (or_64 hs (by omega))
            refine ⟨s', e1, e2, subB_or.tr e3, fun C hC g h => e4 C hC g (or_subB h (hC a i ha (by omega) c3 c2 (g a c1))), fun b p q r t w => ?_⟩
            by_cases z : i = b
            · subst z; exact e3 i or_bit
            · exact e5 b (by omega) q r t w
      · rw [if_neg (fun q => c1 ((bit_tb o ho a (by omega)).mp q)), if_pos rfl]
        obtain ⟨s', e1, e2, e3, e4, e5⟩ := ih (i + 1) s (by omega) (by omega) hs
        exact ⟨s', e1, e2, e3, e4, fun b p q r t w => absurd w c1⟩
theorem ch_L42 (h : RL M σ μ) (hN : ga μ 0 0 = nI N) (h6 : N ≤ 6) (y1 : Int32) {o : Nat} (ho : o < 64) : ∀ (n i s : Nat), i ≤ N → N < i + n → s < 64 → ∃ s', s' < 64 ∧ (f_X0_chain_L42 σ y1 (nI o) n (nI s) (nI i)).1 = nI s' ∧ subB s s' ∧ (∀ C, clo μ N C → subB o C → subB s C → subB s' C) ∧ (∀ a b, i ≤ a → a < N → b < N → a ≠ b → ED μ a b → o.testBit a = true → s'.testBit b = true) := by
  intro n
  induction n with
  | zero => intro i s h1 h2; omega
  | succ n ih =>
    intro i s h1 h2 hs
    rw [f_X0_chain_L42, h.t.n, hN]
    by_cases c : N ≤ i
    · rw [if_pos ((cnI_le N (by omega) i (by omega)).mpr c)]
      exact ⟨s, hs, rfl, subB.rf, fun C _ _ h => h, fun a b p q => by omega⟩
    · rw [if_neg (fun q => c ((cnI_le N (by omega) i (by omega)).mp q))]
      dsimp only
      obtain ⟨s1, f1, f2, f3, f4, f5⟩ := ch_L57 h hN h6 y1 (a := i) (by omega) ho 7 0 s (by omega) (by omega) hs
      have f2 : (f_X0_chain_L57 σ y1 (nI o) (nI i) 7 (nI s) 0).1 = nI s1 := f2
      rw [nI_inc i (by omega), f2]
      obtain ⟨s', e1, e2, e3, e4, e5⟩ := ih (i + 1) s1 (by omega) (by omega) f1
      refine ⟨s', e1, e2, f3.tr e3, fun C hC g h => e4 C hC g (f4 C hC g h), fun a b p q r t w x => ?_⟩
      by_cases z : i = a
      · subst z; exact e3 b (f5 b (by omega) r t w x)
      · exact e5 a b (by omega) q r t w x
theorem ch_L32 (h : RL M σ μ) (hN : ga μ 0 0 = nI N) (h6 : N ≤ 6) (y1 : Int32) : ∀ (n o x : Nat), x < 64 → o < 64 → (x = o → clo μ N x) → (64 - x) + (if x = o then 0 else 1) < n → ∃ s', s' < 64 ∧ (f_X0_chain_L32 σ y1 n (nI o) (nI x)).1 = nI s' ∧ subB x s' ∧ clo μ N s' ∧ (∀ C, clo μ N C → subB x C → subB s' C) := by
  intro n
  induction n with
  | zero => intro o x _ _ _ h; omega
  | succ n ih =>
    intro o x hx ho hc hm
    rw [f_X0_chain_L32]
    by_cases c : x = o
    · rw [if_pos ((cnI_eq o ho x hx).mpr c.symm)]
      exact ⟨o, ho, rfl, by rw [c]; exact subB.rf, by rw [← c]; exact hc c, fun C _ h => by rw [← c]; exact h⟩
    · rw [if_neg (fun q => c ((cnI_eq o ho x hx).mp q).symm)]
      dsimp only
      rw [if_neg c] at hm
      obtain ⟨s1, f1, f2, f3, f4, f5⟩ := ch_L42 h hN h6 y1 (o := x) hx 7 0 x (by omega) (by omega) hx
      have f2 : (f_X0_chain_L42 σ y1 (nI x) 7 (nI x) 0).1 = nI s1 := f2
      rw [f2]
      have le := f3.le
      obtain ⟨s', e1, e2, e3, e4, e5⟩ := ih x s1 f1 hx (fun q => by subst q; exact fun a b p1 p2 p3 p4 p5 => f5 a b (by omega) p1 p2 p3 p4 p5) (by
        by_cases z : s1 = x
        · rw [if_pos z]; omega
        · rw [if_neg z]; omega)
      exact ⟨s', e1, e2, f3.tr e3, e4, fun C hC h => e5 C hC (f4 C hC h h)⟩
theorem law_chain (h : RL M σ μ) (p : Int32) : AG M (f_X0_chain σ p) (f_X6_chain μ p) μ := by
  have hp := h.p
  unfold f_X0_chain f_X6_chain
  dsimp only
  rw [e_isPer h]
  by_cases c : f_X6_isPerson μ p = 0
  · rw [if_pos c, if_pos c, if_neg (st_1 σ)]
    exact ag_ref h 1
  · rw [if_neg c, if_neg c, if_pos (st_0 σ)]
    have hP := isPer c
    obtain ⟨j, hj, rfl⟩ := small_nI (x := p) (n := 5) (by omega)
    obtain ⟨N, hN6, hN⟩ := small_nI (x := ga μ 0 0) (n := 6) hp
    have h0 : RL M (lsi σ 7 0) (si μ 2 0) := h.st 0
    obtain ⟨b1, b2, b3⟩ := bit_1 j (by omega)
    obtain ⟨s1, -, e1, f1, g1, i1⟩ := ch_L32 (σ := lsi σ 7 0) (μ := si μ 2 0) h0 hN hN6 (nI j) 131 0 (2 ^ j) b2 (by omega) (fun q => absurd q b3) (by rw [if_neg b3]; have := Nat.sub_le 64 (2 ^ j); omega)
    obtain ⟨s2, -, e2, f2, g2, i2⟩ := ch_M20 (μ := μ) hN hN6 (nI j) 131 (2 ^ j) 0 b2 (by omega) (fun q => absurd q b3) (by rw [if_neg b3]; have := Nat.sub_le 64 (2 ^ j); omega)
    have e : s1 = s2 := subB.eq (i1 s2 g2 f2) (i2 s1 g1 f1)
    have e1 : (f_X0_chain_L32 (lsi σ 7 0) (nI j) 131 0 (nI (2 ^ j))).1 = nI s1 := e1
    have e2 : (f_X6_chain_L20 μ (nI j) 131 (nI (2 ^ j)) 0).1 = nI s2 := e2
    refine ag_giv h ?_
    rw [b1, e1, e2, e]; rfl
end CHAINL
