/-! CALL BY CALL: simplify -/
set_option maxRecDepth 100000
/-- the first debts are poured -/
def cpn (τ : MS) (f : Nat → Int32) (b : Nat) : MS := (τ.1, τ.2.1, (fun k => if k = 12 then va_cpy f (τ.2.2.1 12) 0 0 b else τ.2.2.1 k), τ.2.2.2)
theorem cpn_0 (τ : MS) (f : Nat → Int32) : cpn τ f 0 = τ := by
  unfold cpn
  refine Prod.ext rfl (Prod.ext rfl (Prod.ext ?_ rfl))
  funext k
  show (if k = 12 then va_cpy f (τ.2.2.1 12) 0 0 0 else τ.2.2.1 k) = τ.2.2.1 k
  by_cases h : k = 12
  · rw [if_pos h, h]
    funext j
    exact pk_cpy_out (by omega)
  · rw [if_neg h]
theorem cpn_s (τ : MS) (f : Nat → Int32) (b : Nat) (hb : b < 36) : cpn τ f (b + 1) = sa (cpn τ f b) 12 (nI b) (f b) := by
  have ec : (nI b).toNatClampNeg = b := nI_clamp (by omega)
  refine Prod.ext rfl (Prod.ext rfl (Prod.ext ?_ rfl))
  funext k j
  show (if k = 12 then va_cpy f (τ.2.2.1 12) 0 0 (b + 1) else τ.2.2.1 k) j = va_up (fun k => if k = 12 then va_cpy f (τ.2.2.1 12) 0 0 b else τ.2.2.1 k) 12 (upd ((fun k => if k = 12 then va_cpy f (τ.2.2.1 12) 0 0 b else τ.2.2.1 k) 12) (nI b).toNatClampNeg (f b)) k j
  rw [ec]
  by_cases h : k = 12
  · subst h
    rw [if_pos rfl, va_up_self]
    show va_cpy f (τ.2.2.1 12) 0 0 (b + 1) j = upd (va_cpy f (τ.2.2.1 12) 0 0 b) b (f b) j
    by_cases e : j = b
    · subst e
      rw [pk_us, pk_cpy_in (by omega) (by omega)]
      show f (0 + (j - 0)) = f j
      rw [Nat.zero_add, Nat.sub_zero]
    · rw [pk_un e]
      by_cases l : j < b
      · rw [pk_cpy_in (by omega) (by omega), pk_cpy_in (by omega) (by omega)]
      · rw [pk_cpy_out (by omega), pk_cpy_out (by omega)]
  · rw [if_neg h, va_up_ne _ _ h]
    show _ = (if k = 12 then va_cpy f (τ.2.2.1 12) 0 0 b else τ.2.2.1 k) j
    rw [if_neg h]
section L14
variable {N : Int} {σ : MS × MS} {μ : MS}
theorem RM.gk {i v : Int32} {k : Nat} (h : RM N σ μ) (hk : k = 17 ∨ k = 18) : RM N (lsa σ k i v) μ := by
  obtain ⟨t, s, r0, r1, r2, r3, r4, r5⟩ := h
  have e : ∀ (c : Nat) (j : Int32), c ≠ k → ga (sa (own σ) k i v) c j = ga (own σ) c j := fun c j hc => ga_sa_k hc
  exact ⟨t, s, rfl, r1, ⟨r2.1, r2.2.1, fun j j0 j1 => (e 1 j (by omega)).trans (r2.2.2 j j0 j1)⟩, r3, ⟨r4.1, (e 16 0 (by omega)).trans r4.2⟩, r5.1, fun j j0 j1 => (e 21 j (by omega)).trans (r5.2 j j0 j1)⟩
theorem RM.st7 {v : Int32} (h : RM N σ μ) : RM N (lsi σ 7 v) μ := by
  unfold RM
  have : lsi (lsi σ 7 v) 7 (gi μ 2) = lsi σ 7 (gi μ 2) := by show (si (si σ.1 7 v) 7 _, σ.2) = (si σ.1 7 _, σ.2); rw [si_si]
  rw [this]; exact h
/-- what the two hold while debts are simplified -/
def J3 (N : Int) (n : Nat) (σ : MS × MS) (μ : MS) (B : Int) : Prop := RM N σ μ ∧ (∀ q : Int32, 0 ≤ q.toInt → q.toInt < (n : Int) → ga (own σ) 17 q = ga μ 25 q) ∧ (∀ i : Int32, 0 ≤ i.toInt → i.toInt < 36 → ga (own σ) 18 i = ga μ 26 i ∧ 0 ≤ (ga μ 26 i).toInt ∧ (ga μ 26 i).toInt ≤ B) ∧ ((gi (own σ) 7 = 0 ∧ ∀ i : Int32, 0 ≤ i.toInt → i.toInt < 36 → (ga μ 26 i).toInt ≤ 999999) ∨ (gi (own σ) 7 = 7 ∧ ∃ i : Int32, 0 ≤ i.toInt ∧ i.toInt < 36 ∧ 999999 < (ga μ 26 i).toInt)) ∧ ((∀ q, q < n → -20000000 ≤ lf μ 25 q ∧ lf μ 25 q ≤ 20000000) ∧ isum (lf μ 25) n = 0) ∧ (ga μ 0 0).toInt = (n : Int)
theorem j3_step {n : Nat} : ∀ (k : Nat) (σ : MS × MS) (μ : MS) (B : Int), J3 N n σ μ B → 0 ≤ B → B + 20000000 * (k : Int) ≤ 1000000000 → J3 N n (f_X0_simplify_L33 k σ) (f_X6_simplify_L25 k μ) (B + 20000000 * (k : Int)) ∧ KE μ (f_X6_simplify_L25 k μ) := by
  intro k
  induction k with
  | zero => intro σ μ B h _ _; exact ⟨by rw [show B + 20000000 * ((0 : Nat) : Int) = B by omega]; exact h, KE.rf⟩
  | succ k ih =>
    intro σ μ B h hB hk
    have up : ∀ {σ : MS × MS} {μ : MS} {A C : Int}, J3 N n σ μ A → A ≤ C → J3 N n σ μ C := fun h hc => ⟨h.1, h.2.1, fun i a b => ⟨(h.2.2.1 i a b).1, (h.2.2.1 i a b).2.1, Int.le_trans (h.2.2.1 i a b).2.2 hc⟩, h.2.2.2⟩
    obtain ⟨r, h17, h18, hst, ⟨hb, hs⟩, hn⟩ := h
    have hp := RL.p r
    have en : gi (ttb σ) 1 = ga μ 0 0 := r.tt.n
    rw [f_X0_simplify_L33, f_X6_simplify_L25, en]
    by_cases c : ga μ 0 0 ≤ 0
    · rw [if_pos c, if_pos c]
      exact ⟨up ⟨r, h17, h18, hst, ⟨hb, hs⟩, hn⟩ (by omega), KE.rf⟩
    · rw [if_neg c, if_neg c]
      have c' := c_nle c
      rw [z_0] at c'
      have h17' : ∀ q : Int32, 0 ≤ q.toInt → q.toInt < (ga μ 0 0).toInt → ga (own σ) 17 q = ga μ 25 q := fun q a b => h17 q a (by omega)
      have x0 := (e_ext (w := 0) r h17').1
      have x1 := (e_ext (w := 1) r h17').1
      rw [if_pos rfl] at x0
      rw [if_neg (show ¬ (1 : Int32) = 0 by decide)] at x1
      have y0 := lext (σ := σ) (w := 0) (r := f_X0_extremeOf σ 0) (by rw [en]; omega) rfl
      have y1 := lext (σ := σ) (w := 1) (r := f_X0_extremeOf σ 1) (by rw [en]; omega) rfl
      rw [x0, en] at y0
      rw [x1, en] at y1
      dsimp only
      rw [x0, x1]
      generalize f_X6_leastLeft μ = lo at y0 ⊢
      generalize f_X6_mostLeft μ = hi at y1 ⊢
      have l1 := y0.1
      have l2 := y0.2.1
      have m1 := y1.1
      have m2 := y1.2.1
      rw [h17 lo l1 (by omega), h17 hi m1 (by omega)]
      by_cases d : (0 : Int32) ≤ ga μ 25 lo
      · rw [if_pos d, if_pos d]
        exact ⟨up ⟨r, h17, h18, hst, ⟨hb, hs⟩, hn⟩ (by omega), KE.rf⟩
      · rw [if_neg d, if_neg d]
        have d' := c_nle d
        rw [z_0] at d'
        have ei : ((6 : Int32) * lo + hi).toInt = 6 * lo.toInt + hi.toInt := ow_i (by omega) (by omega)
        generalize hmu : jmin (-(ga μ 25 lo)) (ga μ 25 hi) = mu
        generalize hix : (6 : Int32) * lo + hi = ix at ei
        have blo : lf μ 25 lo.toInt.toNat = (ga μ 25 lo).toInt := by unfold lf; rw [nI_of_toInt l1]
        have bhi : lf μ 25 hi.toInt.toNat = (ga μ 25 hi).toInt := by unfold lf; rw [nI_of_toInt m1]
        have rlo := hb lo.toInt.toNat (by omega)
        have rhi := hb hi.toInt.toNat (by omega)
        have hmax : ∀ q, q < n → lf μ 25 q ≤ (ga μ 25 hi).toInt := fun q hq => by
          have z := y1.2.2 (nI q) (by rw [nI_toInt (by omega)]; omega) (by rw [nI_toInt (by omega)]; omega)
          rw [if_neg (show ¬ (1 : Int32) = 0 by decide), h17 hi m1 (by omega), h17 (nI q) (by rw [nI_toInt (by omega)]; omega) (by rw [nI_toInt (by omega)]; omega)] at z
          exact z
        have hpos : 0 < (ga μ 25 hi).toInt := by
          refine Int.not_le.mp (fun hle => ?_)
          have := isum_neg (f := lf μ 25) (a := lo.toInt.toNat) n (by omega) (by omega) (fun q hq => by have := hmax q hq; omega)
          omega
        have mneg : (-(ga μ 25 lo)).toInt = -(ga μ 25 lo).toInt := i_neg rfl (by omega)
        have hm := jmin_i (x := -(ga μ 25 lo)) (y := ga μ 25 hi)
        rw [hmu, mneg] at hm
        have mu1 : 1 ≤ mu.toInt ∧ mu.toInt ≤ 20000000 := by omega
        obtain ⟨a1, a2, a3⟩ := h18 ix (by omega) (by omega)
        have ev : (ga μ 26 ix + mu).toInt = (ga μ 26 ix).toInt + mu.toInt := i_add rfl rfl (by omega)
        have stp := simp_step (σ := μ) (n := n) (lo := lo) (hi := hi) (mu := mu) (ix := ix) (x := ga μ 26 ix + mu) (by omega) hb hs ⟨l1, by omega⟩ ⟨m1, by omega⟩ d' hmax hmu.symm rfl rfl rfl
        have key : ∀ S : MS × MS, (S = lsa σ 18 ix (ga μ 26 ix + mu) ∧ (ga μ 26 ix + mu).toInt ≤ 999999 ∨ S = lsi (lsa σ 18 ix (ga μ 26 ix + mu)) 7 7 ∧ 999999 < (ga μ 26 ix + mu).toInt) → J3 N n (lsa (lsa S 17 lo (ga (own S) 17 lo + mu)) 17 hi (ga (own (lsa S 17 lo (ga (own S) 17 lo + mu))) 17 hi - mu)) (sa (sa (sa μ 26 ix (ga μ 26 ix + mu)) 25 lo (ga (sa μ 26 ix (ga μ 26 ix + mu)) 25 lo + mu)) 25 hi (ga (sa (sa μ 26 ix (ga μ 26 ix + mu)) 25 lo (ga (sa μ 26 ix (ga μ 26 ix + mu)) 25 lo + mu)) 25 hi - mu)) (B + 20000000) := by
          intro S hS
          have rS : RM N S μ := by
            rcases hS with ⟨e, -⟩ | ⟨e, -⟩
            · rw [e]; exact r.gk (Or.inr rfl)
            · rw [e]; exact (r.gk (Or.inr rfl)).st7
          have S17 : ∀ q : Int32, 0 ≤ q.toInt → q.toInt < (n : Int) → ga (own S) 17 q = ga μ 25 q := fun q p0 p1 => by
            have : ga (own S) 17 q = ga (own σ) 17 q := by
              rcases hS with ⟨e, -⟩ | ⟨e, -⟩ <;> rw [e] <;> exact ga_sa_k (by decide)
            rw [this]; exact h17 q p0 p1
          have S18 : ∀ i : Int32, ga (own S) 18 i = ga (sa (own σ) 18 ix (ga μ 26 ix + mu)) 18 i := fun i => by
            rcases hS with ⟨e, -⟩ | ⟨e, -⟩ <;> rw [e] <;> rfl
          generalize hA : sa μ 26 ix (ga μ 26 ix + mu) = A at stp ⊢
          have A25 : ∀ q, ga A 25 q = ga μ 25 q := fun q => by rw [← hA]; exact ga_sa_k (by decide)
          refine ⟨?_, ?_, ?_, ?_, ⟨stp.1, stp.2.1⟩, ?_⟩
          · have r2 : RM N S A := by rw [← hA]; exact rS.x5 (by decide)
            exact (((r2.x5 (by decide)).x5 (by decide)).gk (Or.inl rfl)).gk (Or.inl rfl)
          · have first : ∀ q : Int32, 0 ≤ q.toInt → q.toInt < (n : Int) → ga (own (lsa S 17 lo (ga (own S) 17 lo + mu))) 17 q = ga (sa A 25 lo (ga A 25 lo + mu)) 25 q := fun q p0 p1 => by
              show ga (sa (own S) 17 lo (ga (own S) 17 lo + mu)) 17 q = _
              by_cases z : lo.toInt = q.toInt
              · rw [← Int32.toInt_inj.mp z, ga_sa_eq, ga_sa_eq, S17 lo l1 (by omega), A25]
              · rw [ar_ne z l1 p0, ar_ne z l1 p0, S17 q p0 p1, A25]
            intro q p0 p1
            show ga (sa (own (lsa S 17 lo (ga (own S) 17 lo + mu))) 17 hi _) 17 q = _
            by_cases z : hi.toInt = q.toInt
            · rw [← Int32.toInt_inj.mp z, ga_sa_eq, ga_sa_eq, first hi m1 (by omega)]
            · rw [ar_ne z m1 p0, ar_ne z m1 p0, first q p0 p1]
          · intro i p0 p1
            have e1 : ga (own (lsa (lsa S 17 lo (ga (own S) 17 lo + mu)) 17 hi (ga (own (lsa S 17 lo (ga (own S) 17 lo + mu))) 17 hi - mu))) 18 i = ga (own S) 18 i := (ga_sa_k (by decide)).trans (ga_sa_k (by decide))
            have e2 : ∀ v w : Int32, ga (sa (sa A 25 lo v) 25 hi w) 26 i = ga A 26 i := fun v w => (ga_sa_k (by decide)).trans (ga_sa_k (by decide))
            rw [e1, e2, S18, ← hA]
            by_cases z : ix.toInt = i.toInt
            · rw [← Int32.toInt_inj.mp z, ga_sa_eq, ga_sa_eq]
              exact ⟨rfl, by omega, by omega⟩
            · rw [ar_ne z (by omega) p0, ar_ne z (by omega) p0]
              have := h18 i p0 p1
              exact ⟨this.1, this.2.1, by omega⟩
          · have e2 : ∀ (v w : Int32) (i : Int32), ga (sa (sa A 25 lo v) 25 hi w) 26 i = ga A 26 i := fun v w i => (ga_sa_k (by decide)).trans (ga_sa_k (by decide))
            have e7 : gi (own (lsa (lsa S 17 lo (ga (own S) 17 lo + mu)) 17 hi (ga (own (lsa S 17 lo (ga (own S) 17 lo + mu))) 17 hi - mu))) 7 = gi (own S) 7 := rfl
            rw [e7]
            simp only [e2]
            have Aix : ga A 26 ix = ga μ 26 ix + mu := by rw [← hA]; exact ga_sa_eq
            have Ai : ∀ i : Int32, 0 ≤ i.toInt → ¬ ix.toInt = i.toInt → ga A 26 i = ga μ 26 i := fun i p0 z => by rw [← hA]; exact ar_ne z (by omega) p0
            rcases hS with ⟨e, le⟩ | ⟨e, gt⟩
            · have e0 : gi (own S) 7 = gi (own σ) 7 := by rw [e]; rfl
              rw [e0]
              rcases hst with ⟨s0, s1⟩ | ⟨s0, i, i0, i1, i2⟩
              · refine Or.inl ⟨s0, fun i p0 p1 => ?_⟩
                by_cases z : ix.toInt = i.toInt
                · rw [← Int32.toInt_inj.mp z, Aix]; exact le
                · rw [Ai i p0 z]; exact s1 i p0 p1
              · refine Or.inr ⟨s0, i, i0, i1, ?_⟩
                by_cases z : ix.toInt = i.toInt
                · have := Int32.toInt_inj.mp z
                  subst this
                  omega
                · rw [Ai i i0 z]; exact i2
            · refine Or.inr ⟨by rw [e]; rfl, ix, by omega, by omega, by rw [Aix]; exact gt⟩
          · rw [show ga (sa (sa A 25 lo _) 25 hi _) 0 0 = ga A 0 0 from (ga_sa_k (by decide)).trans (ga_sa_k (by decide)), ← hA, show ga (sa μ 26 ix _) 0 0 = ga μ 0 0 from ga_sa_k (by decide)]
            exact hn
        have kM : KE μ (sa (sa (sa μ 26 ix (ga μ 26 ix + mu)) 25 lo (ga (sa μ 26 ix (ga μ 26 ix + mu)) 25 lo + mu)) 25 hi (ga (sa (sa μ 26 ix (ga μ 26 ix + mu)) 25 lo (ga (sa μ 26 ix (ga μ 26 ix + mu)) 25 lo + mu)) 25 hi - mu)) := (KE_sa (by decide)).tr ((KE_sa (by decide)).tr (KE_sa (by decide)))
        have fin : ∀ S, J3 N n S (sa (sa (sa μ 26 ix (ga μ 26 ix + mu)) 25 lo (ga (sa μ 26 ix (ga μ 26 ix + mu)) 25 lo + mu)) 25 hi (ga (sa (sa μ 26 ix (ga μ 26 ix + mu)) 25 lo (ga (sa μ 26 ix (ga μ 26 ix + mu)) 25 lo + mu)) 25 hi - mu)) (B + 20000000) → J3 N n (f_X0_simplify_L33 k S) (f_X6_simplify_L25 k (sa (sa (sa μ 26 ix (ga μ 26 ix + mu)) 25 lo (ga (sa μ 26 ix (ga μ 26 ix + mu)) 25 lo + mu)) 25 hi (ga (sa (sa μ 26 ix (ga μ 26 ix + mu)) 25 lo (ga (sa μ 26 ix (ga μ 26 ix + mu)) 25 lo + mu)) 25 hi - mu))) (B + 20000000 * ((k + 1 : Nat) : Int)) ∧ KE μ (f_X6_simplify_L25 k (sa (sa (sa μ 26 ix (ga μ 26 ix + mu)) 25 lo (ga (sa μ 26 ix (ga μ 26 ix + mu)) 25 lo + mu)) 25 hi (ga (sa (sa μ 26 ix (ga μ 26 ix + mu)) 25 lo (ga (sa μ 26 ix (ga μ 26 ix + mu)) 25 lo + mu)) 25 hi - mu))) := fun S hj => by
          obtain ⟨q1, q2⟩ := ih S _ (B + 20000000) hj (by omega) (by omega)
          exact ⟨up q1 (by omega), kM.tr q2⟩
        have e18 : ga (own σ) 18 ix = ga μ 26 ix := a1
        rw [e18]
        have own99 : ga (own (lsa σ 18 ix (ga μ 26 ix + mu))) 18 ix = ga μ 26 ix + mu := ga_sa_eq
        rw [own99]
        by_cases f : ga μ 26 ix + mu ≤ 999999
        · rw [if_pos f]
          have f' := c_le f
          rw [show (999999 : Int32).toInt = 999999 from rfl] at f'
          exact fin _ (key _ (Or.inl ⟨rfl, f'⟩))
        · rw [if_neg f]
          have f' := c_nle f
          rw [show (999999 : Int32).toInt = 999999 from rfl] at f'
          exact fin _ (key _ (Or.inr ⟨rfl, f'⟩))
end L14
section L15
variable {N : Int} {σ : MS × MS} {μ : MS}
theorem j3_zero : ∀ (n : Nat) (b : Int32) (σ : MS × MS) (u : MS), 0 ≤ b.toInt → b.toInt ≤ 36 → 36 < b.toInt + n → RM N σ u → (∀ i : Int32, 0 ≤ i.toInt → i.toInt < b.toInt → ga (own σ) 18 i = 0 ∧ ga u 26 i = 0) →
    RM N (f_X0_simplify_L11 n b σ).2 (f_X6_simplify_L6 n b u).2 ∧ (∀ q, ga (own (f_X0_simplify_L11 n b σ).2) 17 q = ga (own σ) 17 q) ∧ (∀ q, ga (f_X6_simplify_L6 n b u).2 25 q = ga u 25 q) ∧ gi (own (f_X0_simplify_L11 n b σ).2) 7 = gi (own σ) 7 ∧ (∀ j, ga (f_X6_simplify_L6 n b u).2 0 j = ga u 0 j) ∧ KE u (f_X6_simplify_L6 n b u).2 ∧ ∀ i : Int32, 0 ≤ i.toInt → i.toInt < 36 → ga (own (f_X0_simplify_L11 n b σ).2) 18 i = 0 ∧ ga (f_X6_simplify_L6 n b u).2 26 i = 0 := by
  intro n
  induction n with
  | zero => intro b σ u h0 h1 h2; omega
  | succ n ih =>
    intro b σ u h0 h1 h2 r hz
    rw [f_X0_simplify_L11, f_X6_simplify_L6]
    by_cases c : (36 : Int32) ≤ b
    · rw [if_pos c, if_pos c]
      have c' := c_le c
      rw [show (36 : Int32).toInt = 36 from rfl] at c'
      exact ⟨r, fun _ => rfl, fun _ => rfl, rfl, fun _ => rfl, KE.rf, fun i p0 p1 => hz i p0 (by omega)⟩
    · rw [if_neg c, if_neg c]
      have c' := c_nle c
      rw [show (36 : Int32).toInt = 36 from rfl] at c'
      have eb : (b + 1).toInt = b.toInt + 1 := inc1 (by omega) (by omega)
      dsimp only
      obtain ⟨a1, a2, a3, a4, a5, a6, a7⟩ := ih (b + 1) (lsa σ 18 b 0) (sa u 26 b 0) (by omega) (by omega) (by omega) ((r.gk (Or.inr rfl)).x5 (by decide)) (fun i p0 p1 => by
        show ga (sa (own σ) 18 b 0) 18 i = 0 ∧ ga (sa u 26 b 0) 26 i = 0
        by_cases z : b.toInt = i.toInt
        · rw [← Int32.toInt_inj.mp z, ga_sa_eq, ga_sa_eq]; exact ⟨rfl, rfl⟩
        · rw [ar_ne z h0 p0, ar_ne z h0 p0]; exact hz i p0 (by omega))
      exact ⟨a1, fun q => (a2 q).trans (ga_sa_k (by decide)), fun q => (a3 q).trans (ga_sa_k (by decide)), a4, fun j => (a5 j).trans (ga_sa_k (by decide)), (KE_sa (by decide)).tr a6, a7⟩
theorem j3_ok (u : MS) : ∀ (n : Nat) (b : Int32), 0 ≤ b.toInt → b.toInt ≤ 36 → 36 < b.toInt + n → (∀ i : Int32, b.toInt ≤ i.toInt → i.toInt < 36 → (ga u 26 i).toInt ≤ 999999) → f_X6_simplify_L113 u n b = f_X6_gives (f_X6_simplify_L146 37 0 u).2 (f_X6_tiesNow (f_X6_simplify_L146 37 0 u).2) := by
  intro n
  induction n with
  | zero => intro b h0 h1 h2; omega
  | succ n ih =>
    intro b h0 h1 h2 ha
    rw [f_X6_simplify_L113]
    by_cases c : (36 : Int32) ≤ b
    · rw [if_pos c]
    · rw [if_neg c]
      have c' := c_nle c
      rw [show (36 : Int32).toInt = 36 from rfl] at c'
      have eb : (b + 1).toInt = b.toInt + 1 := inc1 (by omega) (by omega)
      rw [if_pos (Int32.le_iff_toInt_le.mpr (by rw [show (999999 : Int32).toInt = 999999 from rfl]; exact ha b (by omega) c'))]
      exact ih (b + 1) (by omega) (by omega) (by omega) (fun i p0 p1 => ha i (by omega) p1)
theorem j3_bad (u : MS) : ∀ (n : Nat) (b : Int32), 0 ≤ b.toInt → b.toInt ≤ 36 → 36 < b.toInt + n → (∃ i : Int32, b.toInt ≤ i.toInt ∧ i.toInt < 36 ∧ 999999 < (ga u 26 i).toInt) → f_X6_simplify_L113 u n b = f_X6_refuse u 7 := by
  intro n
  induction n with
  | zero => intro b h0 h1 h2; omega
  | succ n ih =>
    intro b h0 h1 h2 ⟨i, i0, i1, i2⟩
    rw [f_X6_simplify_L113]
    by_cases c : (36 : Int32) ≤ b
    · have c' := c_le c
      rw [show (36 : Int32).toInt = 36 from rfl] at c'
      omega
    · rw [if_neg c]
      have c' := c_nle c
      rw [show (36 : Int32).toInt = 36 from rfl] at c'
      have eb : (b + 1).toInt = b.toInt + 1 := inc1 (by omega) (by omega)
      by_cases d : ga u 26 b ≤ 999999
      · rw [if_pos d]
        have d' := c_le d
        rw [show (999999 : Int32).toInt = 999999 from rfl] at d'
        refine ih (b + 1) (by omega) (by omega) (by omega) ⟨i, ?_, i1, i2⟩
        by_cases z : i.toInt = b.toInt
        · have := Int32.toInt_inj.mp z
          subst this
          omega
        · omega
      · rw [if_neg d]
theorem dr_k : ∀ b, b < 36 → f_X6_debtRow (nI (b / 6)) (nI (b % 6)) = 92 + nI b ∧ (6 : Int32) * nI (b / 6) + nI (b % 6) = nI b := by decide +kernel
theorem RM.owe {a b v : Int32} (h : RM N σ μ) (ha : 0 ≤ a.toInt ∧ a.toInt ≤ 5) (hb : 0 ≤ b.toInt ∧ b.toInt ≤ 5) (hv : 0 ≤ v.toInt ∧ v.toInt ≤ 999999) : RM N (σ.1, f_X5_owe (ttb σ) a b v) (sa μ 0 (f_X6_debtRow a b) v) := by
  obtain ⟨t, ⟨s1, s2, s3, s4⟩, r0, r1, r2, r3, r4, r5⟩ := h
  have ei := dr_i ha hb
  have e8 : ∀ (k : Nat) (j : Int32), k ≠ 0 → ga (sa μ 0 (f_X6_debtRow a b) v) k j = ga μ k j := fun k j hk => ga_sa_k hk
  exact ⟨RT_owe t s1 ha hb, ⟨SL_owe s1 ha hb hv, DP0_s0 s2 s1 ei (Or.inr (by omega)), PB_ne s3 (by omega) (by omega), s4⟩, rfl, r1, ⟨r2.1, r2.2.1, fun j j0 j1 => (r2.2.2 j j0 j1).trans (e8 8 j (by decide)).symm⟩, r3, r4, r5.1, fun j j0 j1 => (r5.2 j j0 j1).trans (e8 32 j (by decide)).symm⟩
theorem j3_copy {f : Nat → Int32} : ∀ (n b : Nat) (u : MS), b ≤ 36 → 36 < b + n → RM N (σ.1, cpn σ.2 f b) u → (∀ i, i < 36 → f i = ga u 26 (nI i) ∧ 0 ≤ (f i).toInt ∧ (f i).toInt ≤ 999999) → RM N (σ.1, cpn σ.2 f 36) (f_X6_simplify_L146 n (nI b) u).2 ∧ KE u (f_X6_simplify_L146 n (nI b) u).2 := by
  intro n
  induction n with
  | zero => intro b u h1 h2; omega
  | succ n ih =>
    intro b u h1 h2 r hf
    rw [f_X6_simplify_L146]
    by_cases c : b = 36
    · subst c
      rw [if_pos (by decide)]
      exact ⟨r, KE.rf⟩
    · have hb : b < 36 := by omega
      rw [if_neg (fun q => by have := (nI_leI (a := 36) (b := b) (by omega) (by omega)).mp q; omega)]
      dsimp only
      obtain ⟨g1, g2, g3⟩ := hf b hb
      obtain ⟨d1, d2⟩ := dr_k b hb
      have a5 : ∀ k, k < 6 → 0 ≤ (nI k).toInt ∧ (nI k).toInt ≤ 5 := by decide +kernel
      have q := RM.owe (σ := (σ.1, cpn σ.2 f b)) (a := nI (b / 6)) (b := nI (b % 6)) (v := f b) r (a5 _ (by omega)) (a5 _ (by omega)) ⟨g2, g3⟩
      have e5 : f_X5_owe (ttb (σ.1, cpn σ.2 f b)) (nI (b / 6)) (nI (b % 6)) (f b) = cpn σ.2 f (b + 1) := by
        rw [cpn_s _ _ _ hb]
        show sa (cpn σ.2 f b) 12 (6 * nI (b / 6) + nI (b % 6)) (f b) = _
        rw [d2]
      rw [e5, d1, g1] at q
      rw [nI_1]
      have ei : ((92 : Int32) + nI b).toInt = 92 + (b : Int) := i_add z_92 (nI_toInt (by omega)) (by omega)
      obtain ⟨k1, k2⟩ := ih (b + 1) (sa u 0 (92 + nI b) (ga u 26 (nI b))) (by omega) (by omega) q (fun i hi => by
        rw [ga_sa_k (by decide)]; exact hf i hi)
      exact ⟨k1, (KE_s0 ei (by omega)).tr k2⟩
theorem law_simplify (h : RL N σ μ) : AG N (f_X0_simplify σ) (f_X6_simplify μ) μ := by
  have hp := h.p
  unfold f_X0_simplify f_X6_simplify
  dsimp only
  obtain ⟨b1, b2, b3⟩ := e_lay (h.m 0)
  obtain ⟨c1, c2, c3, c4⟩ := e_lays b1
  generalize f_X0_balances (lsi σ 7 0) = A at b1 b2 b3 c1 ⊢
  generalize f_X6_laysBalances μ = u at c1 c2 c3 c4 ⊢
  obtain ⟨z1, z2, z3, z4, z5, z6, z7⟩ := j3_zero (N := N) 37 0 A u (by rw [z_0]; omega) (by rw [z_0]; omega) (by rw [z_0]; omega) c1 (fun i p0 p1 => by rw [z_0] at p1; omega)
  generalize f_X0_simplify_L11 37 0 A = A2 at z1 z2 z4 z7 ⊢
  generalize f_X6_simplify_L6 37 0 u = u2 at z1 z3 z5 z6 z7 ⊢
  have hn : (ga μ 0 0).toInt = (((ga μ 0 0).toInt.toNat : Nat) : Int) := by omega
  have S := lays_sum (N := (ga μ 0 0).toInt.toNat) (u := u) hn (by omega) h.s c4
  have e25 : ∀ q, lf u2.2 25 q = lf u 25 q := fun q => by unfold lf; rw [z3]
  have J : J3 N (ga μ 0 0).toInt.toNat A2.2 u2.2 0 := by
    refine ⟨z1, fun q p0 p1 => ?_, fun i p0 p1 => ?_, Or.inl ⟨?_, fun i p0 p1 => ?_⟩, ⟨fun q hq => by rw [e25]; exact S.1 q hq, ?_⟩, ?_⟩
    · rw [z2, z3, b3 q p0 (by omega), c4 q p0 (by omega)]
    · rw [(z7 i p0 p1).1, (z7 i p0 p1).2]
      exact ⟨rfl, by decide, by decide⟩
    · rw [z4, b2]; rfl
    · rw [(z7 i p0 p1).2, z_0]; omega
    · rw [isum_eq (f := lf u 25) (g := lf u2.2 25) _ (fun q _ => e25 q)]; exact S.2
    · rw [z5, c2]; exact hn
  obtain ⟨j1, j2⟩ := j3_step 7 A2.2 u2.2 0 J (by omega) (by omega)
  have K : KE μ (f_X6_simplify_L25 7 u2.2) := c3.tr (z6.tr j2)
  generalize f_X0_simplify_L33 7 A2.2 = A3 at j1 ⊢
  generalize f_X6_simplify_L25 7 u2.2 = u3 at j1 K ⊢
  obtain ⟨r, -, h18, hst, -⟩ := j1
  rcases hst with ⟨s0, s1⟩ | ⟨s0, i, i0, i1, i2⟩
  · rw [if_pos (by rw [s0]; decide), j3_ok u3 37 0 (by rw [z_0]; omega) (by rw [z_0]; omega) (by rw [z_0]; omega) (fun i p0 p1 => s1 i (by rw [z_0] at p0; exact p0) p1)]
    have cp := j3_copy (N := N) (σ := A3) (f := A3.1.2.2.1 18) 37 0 u3 (by omega) (by omega) (by rw [cpn_0]; exact r) (fun i hi => by
      have ii : (nI i).toInt = (i : Int) := nI_toInt (by omega)
      have g := h18 (nI i) (by omega) (by omega)
      have e : ga (own A3) 18 (nI i) = A3.1.2.2.1 18 i := by
        show A3.1.2.2.1 18 (nI i).toNatClampNeg = _
        rw [nI_clamp (by omega)]
      have s := s1 (nI i) (by omega) (by omega)
      rw [e] at g
      exact ⟨g.1, by rw [g.1]; exact g.2.1, by rw [g.1]; exact s⟩)
    have cp1 : RM N (tcp A3) (f_X6_simplify_L146 37 0 u3).2 := cp.1
    have cp2 : KE u3 (f_X6_simplify_L146 37 0 u3).2 := cp.2
    generalize (f_X6_simplify_L146 37 0 u3).2 = u4 at cp1 cp2 ⊢
    have t := e_ties (σ := tcp A3) cp1.tt (RL.s cp1)
    have q := ag_gvR cp1 t s0
    exact ⟨q.1, q.2.1, (K.tr cp2).tr q.2.2⟩
  · rw [if_neg (by rw [s0]; decide), j3_bad u3 37 0 (by rw [z_0]; omega) (by rw [z_0]; omega) (by rw [z_0]; omega) ⟨i, by rw [z_0]; exact i0, i1, i2⟩]
    refine ⟨rfl, ⟨r.1, r.2.1, ?_, r.2.2.2⟩, K.tr KE_si⟩
    exact s0
end L15
