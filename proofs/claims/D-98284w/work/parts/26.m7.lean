/-! walks of methods by contract, printed by gen/mkwalk.py -/
set_option maxRecDepth 100000
def isum (f : Nat → Int) : Nat → Int | 0 => 0 | n + 1 => isum f n + f n
def nzc (f : Nat → Int) : Nat → Nat | 0 => 0 | n + 1 => nzc f n + (if f n = 0 then 0 else 1)
def lf (σ : MS) (k : Nat) (q : Nat) : Int := (ga σ k (nI q)).toInt
theorem isum_eq {f g : Nat → Int} : ∀ n, (∀ q, q < n → g q = f q) → isum g n = isum f n
  | 0, _ => rfl
  | n + 1, h => by rw [isum, isum, isum_eq n (fun q hq => h q (by omega)), h n (by omega)]
theorem isum_ch {f g : Nat → Int} {a : Nat} : ∀ n, a < n → (∀ q, q < n → q ≠ a → g q = f q) → isum g n = isum f n + (g a - f a)
  | 0, ha, _ => absurd ha (by omega)
  | n + 1, ha, h => by
    by_cases e : a = n
    · subst e
      rw [isum, isum, isum_eq a (fun q hq => h q (by omega) (by omega))]; omega
    · rw [isum, isum, isum_ch n (by omega) (fun q hq hne => h q (by omega) hne), h n (by omega) (by omega)]; omega
theorem nzc_eq {f g : Nat → Int} : ∀ n, (∀ q, q < n → g q = f q) → nzc g n = nzc f n
  | 0, _ => rfl
  | n + 1, h => by rw [nzc, nzc, nzc_eq n (fun q hq => h q (by omega)), h n (by omega)]
theorem nzc_ch {f g : Nat → Int} {a : Nat} : ∀ n, a < n → (∀ q, q < n → q ≠ a → g q = f q) → nzc g n + (if f a = 0 then 0 else 1) = nzc f n + (if g a = 0 then 0 else 1)
  | 0, ha, _ => absurd ha (by omega)
  | n + 1, ha, h => by
    by_cases e : a = n
    · subst e
      rw [nzc, nzc, nzc_eq a (fun q hq => h q (by omega) (by omega))]; omega
    · have ih := nzc_ch n (by omega) (fun q hq hne => h q (by omega) hne)
      rw [nzc, nzc, h n (by omega) (by omega)]; omega
theorem nzc_le (f : Nat → Int) : ∀ n, nzc f n ≤ n
  | 0 => Nat.le_refl _
  | n + 1 => by
    have := nzc_le f n
    rw [nzc]; split <;> omega
theorem isum_nonpos {f : Nat → Int} : ∀ n, (∀ q, q < n → f q ≤ 0) → isum f n ≤ 0
  | 0, _ => Int.le_refl _
  | n + 1, h => by
    have := isum_nonpos n (fun q hq => h q (by omega))
    have := h n (by omega)
    rw [isum]; omega
theorem isum_neg {f : Nat → Int} {a : Nat} : ∀ n, a < n → f a < 0 → (∀ q, q < n → f q ≤ 0) → isum f n < 0
  | 0, ha, _, _ => absurd ha (by omega)
  | n + 1, ha, hn, h => by
    rw [isum]
    by_cases e : a = n
    · subst e
      have := isum_nonpos (f := f) a (fun q hq => h q (by omega))
      omega
    · have := isum_neg n (by omega) hn (fun q hq => h q (by omega))
      have := h n (by omega)
      omega
theorem isum_add {f g : Nat → Int} : ∀ n, isum (fun q => f q + g q) n = isum f n + isum g n
  | 0 => rfl
  | n + 1 => by rw [isum, isum, isum, isum_add n]; omega
theorem isum_sub {f g : Nat → Int} : ∀ n, isum (fun q => f q - g q) n = isum f n - isum g n
  | 0 => rfl
  | n + 1 => by rw [isum, isum, isum, isum_sub n]; omega
theorem isum_0 : ∀ n, isum (fun _ => 0) n = 0
  | 0 => rfl
  | n + 1 => by rw [isum, isum_0 n]; rfl
theorem isum_comm {F : Nat → Nat → Int} (m : Nat) : ∀ n, isum (fun p => isum (fun o => F p o) m) n = isum (fun o => isum (fun p => F p o) n) m
  | 0 => by rw [isum]; exact (isum_0 m).symm
  | n + 1 => by
    rw [isum, isum_comm m n, ← isum_add]
    exact isum_eq m (fun q _ => by rw [isum])
theorem isum_anti {F : Nat → Nat → Int} (n : Nat) : isum (fun p => isum (fun o => F o p - F p o) n) n = 0 := by
  have e : isum (fun p => isum (fun o => F o p - F p o) n) n = isum (fun p => isum (fun o => F o p) n - isum (fun o => F p o) n) n := isum_eq n (fun q _ => isum_sub n)
  rw [e, isum_sub, isum_comm (F := fun p o => F o p) n n]; omega
theorem isum_rng {f : Nat → Int} {M : Int} : ∀ n, (∀ q, q < n → -M ≤ f q ∧ f q ≤ M) → -(M * (n : Int)) ≤ isum f n ∧ isum f n ≤ M * (n : Int)
  | 0, _ => by rw [isum]; omega
  | n + 1, h => by
    have a := isum_rng n (fun q hq => h q (by omega))
    have b := h n (by omega)
    have e : M * ((n + 1 : Nat) : Int) = M * (n : Int) + M := by
      rw [Int.natCast_add, Int.mul_add]; simp
    rw [isum, e]; omega
theorem jmin_i {x y : Int32} : ((jmin x y).toInt = x.toInt ∧ x.toInt ≤ y.toInt) ∨ ((jmin x y).toInt = y.toInt ∧ y.toInt < x.toInt) := by
  unfold jmin
  split
  · rename_i h; exact Or.inr ⟨rfl, c_lt h⟩
  · rename_i h; exact Or.inl ⟨rfl, c_nlt h⟩
theorem nI_of_toInt {x : Int32} (h : 0 ≤ x.toInt) : nI x.toInt.toNat = x := by
  have := Int32.toInt_lt x
  refine Int32.toInt_inj.mp ?_
  rw [nI_toInt (by omega)]; omega
theorem lf_sa {σ : MS} {k : Nat} {i v : Int32} {a : Nat} (hi : i.toInt = (a : Int)) (hk : a < 2 ^ 31) : lf (sa σ k i v) k a = v.toInt ∧ ∀ q, q < 2 ^ 31 → q ≠ a → lf (sa σ k i v) k q = lf σ k q := by
  have e : nI a = i := Int32.toInt_inj.mp (by rw [nI_toInt hk, hi])
  refine ⟨by unfold lf; rw [e, ga_sa_eq], fun q hq hne => ?_⟩
  unfold lf
  rw [ga_sa_ne hi (nI_toInt hq) (by omega)]
theorem simp_step {σ σ1 σ2 σ3 : MS} {n : Nat} {lo hi mu ix x : Int32} (hn : n ≤ 6) (hB : ∀ q, q < n → -20000000 ≤ lf σ 25 q ∧ lf σ 25 q ≤ 20000000) (hS : isum (lf σ 25) n = 0) (hlo : 0 ≤ lo.toInt ∧ lo.toInt < n) (hhi : 0 ≤ hi.toInt ∧ hi.toInt < n) (hneg : (ga σ 25 lo).toInt < 0) (hmax : ∀ q, q < n → lf σ 25 q ≤ (ga σ 25 hi).toInt) (hmu : mu = jmin (-(ga σ 25 lo)) (ga σ 25 hi)) (e1 : σ1 = sa σ 26 ix x) (e2 : σ2 = sa σ1 25 lo (ga σ1 25 lo + mu)) (e3 : σ3 = sa σ2 25 hi (ga σ2 25 hi - mu)) :
    (∀ q, q < n → -20000000 ≤ lf σ3 25 q ∧ lf σ3 25 q ≤ 20000000) ∧ isum (lf σ3 25) n = 0 ∧ nzc (lf σ3 25) n < nzc (lf σ 25) n := by
  obtain ⟨a, ha⟩ : ∃ a : Nat, lo.toInt = (a : Int) := ⟨lo.toInt.toNat, by omega⟩
  obtain ⟨b, hb⟩ : ∃ b : Nat, hi.toInt = (b : Int) := ⟨hi.toInt.toNat, by omega⟩
  have fa : lf σ 25 a = (ga σ 25 lo).toInt := by unfold lf; rw [show nI a = lo from Int32.toInt_inj.mp (by rw [nI_toInt (by omega), ha])]
  have fb : lf σ 25 b = (ga σ 25 hi).toInt := by unfold lf; rw [show nI b = hi from Int32.toInt_inj.mp (by rw [nI_toInt (by omega), hb])]
  have hpos : 0 < lf σ 25 b := by
    refine Int.not_le.mp (fun hle => ?_)
    have := isum_neg (f := lf σ 25) (a := a) n (by omega) (by omega) (fun q hq => by have := hmax q hq; omega)
    omega
  have ba := hB a (by omega)
  have bb := hB b (by omega)
  have hab : a ≠ b := fun e => by rw [e] at fa; omega
  have mneg : (-(ga σ 25 lo)).toInt = -(ga σ 25 lo).toInt := i_neg rfl (by omega)
  have hm := jmin_i (x := -(ga σ 25 lo)) (y := ga σ 25 hi)
  rw [← hmu, mneg] at hm
  have q1 : ga σ1 25 lo = ga σ 25 lo := by rw [e1]; exact ga_sa_k (by decide)
  have s1 : ∀ q, lf σ1 25 q = lf σ 25 q := fun q => by unfold lf; rw [e1]; rw [ga_sa_k (by decide)]
  have u2 := lf_sa (σ := σ1) (k := 25) (v := ga σ1 25 lo + mu) ha (by omega)
  rw [← e2, q1, i_add (a := ga σ 25 lo) (b := mu) rfl rfl (by omega)] at u2
  have q2 : (ga σ2 25 hi).toInt = (ga σ 25 hi).toInt := by
    have := u2.2 b (by omega) (by omega)
    rw [s1, fb] at this
    rw [← this]; unfold lf
    rw [show nI b = hi from Int32.toInt_inj.mp (by rw [nI_toInt (by omega), hb])]
  have u3 := lf_sa (σ := σ2) (k := 25) (v := ga σ2 25 hi - mu) hb (by omega)
  rw [← e3, i_sub (a := ga σ2 25 hi) (b := mu) rfl rfl (by omega), q2] at u3
  have ca := isum_ch (f := lf σ1 25) (g := lf σ2 25) (a := a) n (by omega) (fun q hq hne => u2.2 q (by omega) hne)
  have cb := isum_ch (f := lf σ2 25) (g := lf σ3 25) (a := b) n (by omega) (fun q hq hne => u3.2 q (by omega) hne)
  have za := nzc_ch (f := lf σ1 25) (g := lf σ2 25) (a := a) n (by omega) (fun q hq hne => u2.2 q (by omega) hne)
  have zb := nzc_ch (f := lf σ2 25) (g := lf σ3 25) (a := b) n (by omega) (fun q hq hne => u3.2 q (by omega) hne)
  have t1 : isum (lf σ1 25) n = isum (lf σ 25) n := isum_eq n (fun q _ => s1 q)
  have t2 : nzc (lf σ1 25) n = nzc (lf σ 25) n := nzc_eq n (fun q _ => s1 q)
  have g2b : lf σ2 25 b = lf σ 25 b := by rw [u2.2 b (by omega) (by omega), s1]
  have g3a : lf σ3 25 a = lf σ2 25 a := u3.2 a (by omega) hab
  rw [s1] at ca za
  refine ⟨fun q hq => ?_, by omega, ?_⟩
  · by_cases h1 : q = b
    · rw [h1, u3.1]; omega
    · rw [u3.2 q (by omega) h1]
      by_cases h2 : q = a
      · rw [h2, u2.1]; omega
      · rw [u2.2 q (by omega) h2, s1]; exact hB q hq
  · rw [t2] at za
    rw [if_neg (by omega)] at za zb
    rcases hm with hm | hm
    · rw [if_pos (show lf σ2 25 a = 0 by omega)] at za
      split at zb <;> omega
    · rw [if_pos (show lf σ3 25 b = 0 by omega)] at zb
      split at za <;> omega
def nsum (f : Nat → Nat) : Nat → Nat | 0 => 0 | n + 1 => nsum f n + f n
theorem nsum_eq {f g : Nat → Nat} : ∀ n, (∀ q, q < n → g q = f q) → nsum g n = nsum f n
  | 0, _ => rfl
  | n + 1, h => by rw [nsum, nsum, nsum_eq n (fun q hq => h q (by omega)), h n (by omega)]
theorem nsum_ch {f g : Nat → Nat} {a : Nat} : ∀ n, a < n → (∀ q, q < n → q ≠ a → g q = f q) → nsum g n + f a = nsum f n + g a
  | 0, ha, _ => absurd ha (by omega)
  | n + 1, ha, h => by
    by_cases e : a = n
    · subst e
      rw [nsum, nsum, nsum_eq a (fun q hq => h q (by omega) (by omega))]; omega
    · have ih := nsum_ch n (by omega) (fun q hq hne => h q (by omega) hne)
      rw [nsum, nsum, h n (by omega) (by omega)]; omega
def lps (σ : MS) : Nat := nsum (fun q => (lf σ 30 q).toNat) 80
theorem lps_dec {σ σ' : MS} {o t : Int32} (ho : 0 ≤ o.toInt ∧ o.toInt < 80) (ht : t.toInt = 0 ∨ (t.toInt = 1 ∧ 0 < (ga σ 30 o).toInt)) (e : σ' = sa σ 30 o (ga σ 30 o - t)) : lps σ' + t.toInt.toNat = lps σ := by
  obtain ⟨a, ha⟩ : ∃ a : Nat, o.toInt = (a : Int) := ⟨o.toInt.toNat, by omega⟩
  have u := lf_sa (σ := σ) (k := 30) (v := ga σ 30 o - t) ha (by omega)
  have fa : lf σ 30 a = (ga σ 30 o).toInt := by unfold lf; rw [show nI a = o from Int32.toInt_inj.mp (by rw [nI_toInt (by omega), ha])]
  have h1 := Int32.toInt_lt (ga σ 30 o)
  have h2 := Int32.le_toInt (ga σ 30 o)
  rw [← e, i_sub (a := ga σ 30 o) (b := t) rfl rfl (by omega)] at u
  have c := nsum_ch (f := fun q => (lf σ 30 q).toNat) (g := fun q => (lf σ' 30 q).toNat) (a := a) 80 (by omega) (fun q hq hne => by show (lf σ' 30 q).toNat = (lf σ 30 q).toNat; rw [u.2 q (by omega) hne])
  simp only [u.1, fa] at c
  unfold lps
  omega
/-- a row of the year is well formed -/
def RW (σ : MS) (r : Int32) : Prop := ((ga σ 0 r).toInt = 26 → 0 ≤ (ga σ 0 (r + (4 : Int32))).toInt ∧ (ga σ 0 (r + (4 : Int32))).toInt ≤ 59) ∧ (2400 ≤ (ga σ 0 r).toInt → (0 ≤ (ga σ 0 (r + (4 : Int32))).toInt ∧ (ga σ 0 (r + (4 : Int32))).toInt ≤ 59) ∧ (0 ≤ (ga σ 0 (r + (1 : Int32))).toInt ∧ (ga σ 0 (r + (1 : Int32))).toInt ≤ 5) ∧ ((ga σ 0 r).toInt = 2428 ∨ (ga σ 0 r).toInt = 2415 ∨ (0 ≤ (ga σ 0 (r + (2 : Int32))).toInt ∧ (ga σ 0 (r + (2 : Int32))).toInt ≤ 5))) ∧ ((ga σ 0 r).toInt = 17 → (ga σ 0 (r + (1 : Int32))).toInt = -1 ∨ (0 ≤ (ga σ 0 (r + (1 : Int32))).toInt ∧ (ga σ 0 (r + (1 : Int32))).toInt ≤ 5)) ∧ (18 ≤ (ga σ 0 r).toInt → (ga σ 0 r).toInt ≤ 20 → (0 ≤ (ga σ 0 (r + (1 : Int32))).toInt ∧ (ga σ 0 (r + (1 : Int32))).toInt ≤ 5) ∧ (0 ≤ (ga σ 0 (r + (2 : Int32))).toInt ∧ (ga σ 0 (r + (2 : Int32))).toInt ≤ 5))
def rowI (k : Int32) : Int32 := (130 : Int32) + ((6 : Int32) * k)
theorem rowI_toInt {k : Int32} (h : 0 ≤ k.toInt ∧ k.toInt ≤ 300) : (rowI k).toInt = 130 + 6 * k.toInt := i_add (show (130 : Int32).toInt = 130 from rfl) (i_mul (show (6 : Int32).toInt = 6 from rfl) rfl (by omega)) (by omega)
/-- the year's rows are well formed -/
def YOK (σ : MS) : Prop := (-1 ≤ (ga σ 0 (9 : Int32)).toInt ∧ (ga σ 0 (9 : Int32)).toInt ≤ 60) ∧ ∀ k : Int32, 0 ≤ k.toInt → k.toInt < (ga σ 0 (9 : Int32)).toInt → RW σ (rowI k)
theorem RW_eq {σ u : MS} {r : Int32} (h0 : ga u 0 r = ga σ 0 r) (h1 : ga u 0 (r + 1) = ga σ 0 (r + 1)) (h2 : ga u 0 (r + 2) = ga σ 0 (r + 2)) (h4 : ga u 0 (r + 4) = ga σ 0 (r + 4)) (h : RW σ r) : RW u r := by
  unfold RW; rw [h0, h1, h2, h4]; exact h
theorem YOK_hY {σ u : MS} (hA : ∀ j : Int32, 130 ≤ j.toInt → ga u 0 j = ga σ 0 j) (h9 : (ga u 0 (9 : Int32)).toInt = (ga σ 0 (9 : Int32)).toInt) (h : YOK σ) : YOK u := by
  refine ⟨by rw [h9]; exact h.1, fun k h0 h1 => ?_⟩
  rw [h9] at h1
  have hk := h.1
  have e := rowI_toInt (k := k) (by omega)
  have z : ∀ n : Int32, 0 ≤ n.toInt → n.toInt ≤ 5 → 130 ≤ (rowI k + n).toInt := fun n q0 q1 => by rw [i_add e rfl (by omega)]; omega
  exact RW_eq (hA _ (by omega)) (hA _ (z 1 (by decide) (by decide))) (hA _ (z 2 (by decide) (by decide))) (hA _ (z 4 (by decide) (by decide))) (h.2 k h0 h1)
theorem YOK_A0 {σ u : MS} (hA : ∀ j : Int32, ga u 0 j = ga σ 0 j) (h : YOK σ) : YOK u := YOK_hY (fun j _ => hA j) (by rw [hA]) h
theorem RW_A0 {σ u : MS} {r : Int32} (hA : ∀ j : Int32, ga u 0 j = ga σ 0 j) (h : RW σ r) : RW u r := RW_eq (hA _) (hA _) (hA _) (hA _) h
/-- quick of each -/
def qf (σ : MS) (q : Nat) : Int := (ga σ 0 ((f_X6_personRow (nI q)) + (1 : Int32))).toInt
def QR (σ : MS) : Prop := ∀ x : Int32, (0 ≤ x.toInt ∧ x.toInt ≤ 5) → 0 ≤ (ga σ 0 ((f_X6_personRow x) + (1 : Int32))).toInt ∧ (ga σ 0 ((f_X6_personRow x) + (1 : Int32))).toInt ≤ 20
theorem YOK_sa {σ : MS} {i v : Int32} {X : Int} (hi : i.toInt = X) (hX : 0 ≤ X ∧ (X < 130 ∨ 500 ≤ X) ∧ X ≠ 9) (h : YOK σ) : YOK (sa σ 0 i v) := by
  have h9 : ga (sa σ 0 i v) 0 (9 : Int32) = ga σ 0 9 := ga_sa_ne hi (show (9 : Int32).toInt = 9 from rfl) (by omega)
  refine ⟨by rw [h9]; exact h.1, fun k h0 h1 => ?_⟩
  rw [h9] at h1
  have hk := h.1
  have e := rowI_toInt (k := k) (by omega)
  have z : ∀ n : Int32, 0 ≤ n.toInt → n.toInt ≤ 5 → ga (sa σ 0 i v) 0 (rowI k + n) = ga σ 0 (rowI k + n) := fun n q0 q1 => ga_sa_ne hi (i_add e rfl (by omega)) (by omega)
  exact RW_eq (ga_sa_ne hi e (by omega)) (z 1 (by decide) (by decide)) (z 2 (by decide) (by decide)) (z 4 (by decide) (by decide)) (h.2 k h0 h1)
theorem QR_sa {σ : MS} {i v : Int32} {X : Int} (hi : i.toInt = X) (hX : 0 ≤ X ∧ (X < 12 ∨ 60 ≤ X)) (h : QR σ) : QR (sa σ 0 i v) := by
  intro x hx
  have t : ((f_X6_personRow x) + 1).toInt = 12 + 8 * x.toInt + 1 := i_add (i_add (show (12 : Int32).toInt = 12 from rfl) (i_mul (show (8 : Int32).toInt = 8 from rfl) rfl (by omega)) (by omega)) (show (1 : Int32).toInt = 1 from rfl) (by omega)
  rw [ga_sa_ne hi t (by omega)]
  exact h x hx
theorem ga_res {S σ : MS} {k j v : Int32} (hk : 0 ≤ k.toInt) (hj : 0 ≤ j.toInt) (hv : v = ga σ 0 k) (h : ga S 0 j = ga σ 0 j ∨ j.toInt = k.toInt) : ga (sa S 0 k v) 0 j = ga σ 0 j := by
  by_cases q : k.toInt = j.toInt
  · have e : k = j := Int32.toInt_inj.mp q
    subst e
    rw [ga_sa_eq, hv]
  · rw [ga_sa_ne (i := k) rfl rfl (by omega)]
    exact h.elim id (fun z => absurd z.symm q)
theorem YOK_E {σ u : MS} (hA : ∀ j : Int32, 0 ≤ j.toInt → j.toInt < 2500 → ga u 0 j = ga σ 0 j) (h : YOK σ) : YOK u := by
  have h9 : ga u 0 (9 : Int32) = ga σ 0 9 := hA 9 (by decide) (by decide)
  refine ⟨by rw [h9]; exact h.1, fun k h0 h1 => ?_⟩
  rw [h9] at h1
  have hk := h.1
  have e := rowI_toInt (k := k) (by omega)
  have z : ∀ n : Int32, 0 ≤ n.toInt → n.toInt ≤ 5 → ga u 0 (rowI k + n) = ga σ 0 (rowI k + n) := fun n q0 q1 => hA _ (by rw [i_add e rfl (by omega)]; omega) (by rw [i_add e rfl (by omega)]; omega)
  exact RW_eq (hA _ (by omega) (by omega)) (z 1 (by decide) (by decide)) (z 2 (by decide) (by decide)) (z 4 (by decide) (by decide)) (h.2 k h0 h1)
theorem QR_E {σ u : MS} (hA : ∀ j : Int32, 0 ≤ j.toInt → j.toInt < 2500 → ga u 0 j = ga σ 0 j) (h : QR σ) : QR u := by
  intro x hx
  have t : ((f_X6_personRow x) + 1).toInt = 12 + 8 * x.toInt + 1 := i_add (i_add (show (12 : Int32).toInt = 12 from rfl) (i_mul (show (8 : Int32).toInt = 8 from rfl) rfl (by omega)) (by omega)) (show (1 : Int32).toInt = 1 from rfl) (by omega)
  rw [hA _ (by omega) (by omega)]
  exact h x hx
theorem work_sa {S σ : MS} {k v i : Int32} (hk : 0 ≤ k.toInt ∧ k.toInt < 130) (hi : i = (2500 : Int32) + k) (hv : v = ga σ 0 k) (h : ∀ j : Int32, 0 ≤ j.toInt → j.toInt < k.toInt → ga S 0 ((2500 : Int32) + j) = ga σ 0 j) : ∀ j : Int32, 0 ≤ j.toInt → j.toInt < k.toInt + 1 → ga (sa S 0 i v) 0 ((2500 : Int32) + j) = ga σ 0 j := by
  have z : (2500 : Int32).toInt = 2500 := rfl
  intro j h0 h1
  rcases (show j.toInt < k.toInt ∨ j.toInt = k.toInt by omega) with q | q
  · rw [hi, ga_sa_ne (i_add z rfl (by omega)) (i_add z rfl (by omega)) (by omega)]; exact h j h0 q
  · rw [Int32.toInt_inj.mp q, hi, ga_sa_eq]; exact hv
theorem all_in : ∀ n, n < 7 → ∀ p, p < n → (((((1 : Int32) <<< (nI n &&& 31)) - 1) >>> (nI p &&& 31)) &&& 1) = 1 := by decide +kernel
theorem quick_L {σ : MS} {N : Nat} (hN : (ga σ 0 (0 : Int32)).toInt = N) (hN6 : N ≤ 6) (hQ : QR σ) : ∀ (n i : Nat) (acc : Int32), i ≤ N → N < i + n → acc.toInt = isum (qf σ) i → (f_X6_quickOf_L4 σ (f_X6_everybody σ) n acc (nI i)).1.toInt = isum (qf σ) N
  | 0, i, acc, h1, h2, _ => absurd h2 (by omega)
  | n + 1, i, acc, h1, h2, h3 => by
    rw [f_X6_quickOf_L4]
    by_cases h : N ≤ i
    · have e : i = N := by omega
      rw [if_pos (Int32.le_iff_toInt_le.mpr (by rw [nI_toInt (by omega), hN]; omega))]
      rw [← e]; exact h3
    · rw [if_neg (fun q => by have := c_le q; rw [nI_toInt (by omega), hN] at this; omega)]
      have e0 : ga σ 0 (0 : Int32) = nI N := Int32.toInt_inj.mp (by rw [nI_toInt (by omega), hN])
      have hin : f_X6_isIn σ (f_X6_everybody σ) (nI i) = 1 := by
        unfold f_X6_isIn
        rw [show f_X6_everybody σ = ((1 : Int32) <<< ((ga σ 0 (0 : Int32)) &&& 31)) - 1 from rfl, e0]
        rw [if_pos (all_in N (by omega) i (by omega))]
      have hq : 0 ≤ qf σ i ∧ qf σ i ≤ 20 := hQ (nI i) (by rw [nI_toInt (by omega)]; omega)
      have hb := isum_rng (f := qf σ) (M := 20) i (fun q hq => by have := hQ (nI q) (by rw [nI_toInt (by omega)]; omega); unfold qf; omega)
      dsimp only
      rw [hin, if_neg (by decide), nI_1]
      refine quick_L hN hN6 hQ n (i + 1) _ (by omega) (by omega) ?_
      rw [isum, ← h3]
      exact i_add (x := acc.toInt) (y := qf σ i) rfl rfl (by omega)
theorem quick_val {σ : MS} (hp : 0 ≤ (ga σ 0 (0 : Int32)).toInt ∧ (ga σ 0 (0 : Int32)).toInt ≤ 6) (hQ : QR σ) : (f_X6_quickOf σ (f_X6_everybody σ)).toInt = isum (qf σ) (ga σ 0 (0 : Int32)).toInt.toNat := by
  obtain ⟨N, hN⟩ : ∃ N : Nat, (ga σ 0 (0 : Int32)).toInt = (N : Int) := ⟨(ga σ 0 (0 : Int32)).toInt.toNat, by omega⟩
  have := quick_L hN (by omega) hQ 7 0 0 (by omega) (by omega) rfl
  rw [hN]; exact this
theorem quick_nn {σ : MS} {n : Nat} (hn : n ≤ 6) (hQ : QR σ) : 0 ≤ isum (qf σ) n ∧ isum (qf σ) n ≤ 120 := by
  have a := isum_nonpos (f := fun q => -qf σ q) n (fun q hq => by have := hQ (nI q) (by rw [nI_toInt (by omega)]; omega); show -qf σ q ≤ 0; unfold qf; omega)
  have b := isum_rng (f := qf σ) (M := 20) n (fun q hq => by have := hQ (nI q) (by rw [nI_toInt (by omega)]; omega); unfold qf; omega)
  have c := isum_sub (f := fun _ => 0) (g := qf σ) n
  rw [isum_0] at c
  have e : isum (fun q => 0 - qf σ q) n = isum (fun q => -qf σ q) n := isum_eq n (fun q _ => by omega)
  omega
theorem qf_at {σ : MS} {x r : Int32} (h : 0 ≤ x.toInt) (e : r = f_X6_personRow x) : (ga σ 0 (r + (1 : Int32))).toInt = qf σ x.toInt.toNat := by
  unfold qf; rw [nI_of_toInt h, e]
/-- debts -/
def Dd (σ : MS) (a b : Nat) : Int := (ga σ 0 (f_X6_debtRow (nI a) (nI b))).toInt
theorem Dd_rng {σ : MS} (h : SL σ 0) {a b : Nat} (ha : a < 6) (hb : b < 6) : 0 ≤ Dd σ a b ∧ Dd σ a b ≤ 999999 := by
  have e : (f_X6_debtRow (nI a) (nI b)).toInt = 92 + 6 * (a : Int) + b := by
    unfold f_X6_debtRow
    exact i_add (i_add (show (92 : Int32).toInt = 92 from rfl) (i_mul (show (6 : Int32).toInt = 6 from rfl) (nI_toInt (by omega)) (by omega)) (by omega)) (nI_toInt (by omega)) (by omega)
  have := (h (f_X6_debtRow (nI a) (nI b)) (by omega) (by omega)).2.2.2.2.2.2.2.2 (by omega)
  exact this
theorem bal_L {σ : MS} {N p : Nat} (hN : (ga σ 0 (0 : Int32)).toInt = N) (hN6 : N ≤ 6) (hp : p < 6) (hD : ∀ a b, a < 6 → b < 6 → 0 ≤ Dd σ a b ∧ Dd σ a b ≤ 999999) : ∀ (n i : Nat) (acc : Int32), i ≤ N → N < i + n → acc.toInt = isum (fun o => Dd σ o p - Dd σ p o) i → (f_X6_balanceOf_L4 σ (nI p) n acc (nI i)).1.toInt = isum (fun o => Dd σ o p - Dd σ p o) N
  | 0, i, acc, h1, h2, _ => absurd h2 (by omega)
  | n + 1, i, acc, h1, h2, h3 => by
    rw [f_X6_balanceOf_L4]
    by_cases h : N ≤ i
    · have e : i = N := by omega
      rw [if_pos (Int32.le_iff_toInt_le.mpr (by rw [nI_toInt (by omega), hN]; omega))]
      rw [← e]; exact h3
    · rw [if_neg (fun q => by have := c_le q; rw [nI_toInt (by omega), hN] at this; omega)]
      have q1 := hD i p (by omega) hp
      have q2 := hD p i hp (by omega)
      have hb := isum_rng (f := fun o => Dd σ o p - Dd σ p o) (M := 999999) i (fun q hq => by have a := hD q p (by omega) hp; have b := hD p q hp (by omega); show -999999 ≤ Dd σ q p - Dd σ p q ∧ Dd σ q p - Dd σ p q ≤ 999999; omega)
      dsimp only
      rw [nI_1]
      refine bal_L hN hN6 hp hD n (i + 1) _ (by omega) (by omega) ?_
      rw [isum, ← h3]
      exact i_add (x := acc.toInt) (y := Dd σ i p - Dd σ p i) rfl (i_sub (x := Dd σ i p) (y := Dd σ p i) rfl rfl (by omega)) (by omega)
theorem bal_val {σ : MS} {N p : Nat} (hN : (ga σ 0 (0 : Int32)).toInt = N) (hN6 : N ≤ 6) (hp : p < 6) (hS : SL σ 0) : (f_X6_balanceOf σ (nI p)).toInt = isum (fun o => Dd σ o p - Dd σ p o) N :=
  bal_L hN hN6 hp (fun a b ha hb => Dd_rng hS ha hb) 7 0 0 (by omega) (by omega) rfl
theorem lays_sum {σ u : MS} {N : Nat} (hN : (ga σ 0 (0 : Int32)).toInt = N) (hN6 : N ≤ 6) (hS : SL σ 0) (lb : ∀ q : Int32, 0 ≤ q.toInt → q.toInt < (ga σ 0 (0 : Int32)).toInt → ga u 25 q = f_X6_balanceOf σ q) : (∀ q, q < N → -20000000 ≤ lf u 25 q ∧ lf u 25 q ≤ 20000000) ∧ isum (lf u 25) N = 0 := by
  have e : ∀ q, q < N → lf u 25 q = isum (fun o => Dd σ o q - Dd σ q o) N := fun q hq => by
    unfold lf
    rw [lb (nI q) (by rw [nI_toInt (by omega)]; omega) (by rw [nI_toInt (by omega)]; omega)]
    exact bal_val hN hN6 (by omega) hS
  refine ⟨fun q hq => ?_, ?_⟩
  · rw [e q hq]
    have := isum_rng (f := fun o => Dd σ o q - Dd σ q o) (M := 999999) N (fun o ho => by have a := Dd_rng hS (a := o) (b := q) (by omega) (by omega); have b := Dd_rng hS (a := q) (b := o) (by omega) (by omega); show -999999 ≤ Dd σ o q - Dd σ q o ∧ Dd σ o q - Dd σ q o ≤ 999999; omega)
    omega
  · rw [isum_eq N e]
    exact isum_anti (F := fun o p => Dd σ o p) N

def f_X6_duel (σ : MS) (p1 : Int32) (p2 : Int32) : MS × Int32 := (let r3 := (f_X6_areTwo σ p1 p2); if r3 = (0 : Int32) then ((let z11 := (f_X6_is σ (1 : Int32)); let σ11 := z11.1; let r11 := z11.2; (σ11, r11))) else ((let r18 := (f_X6_isEndless σ p1 p2); if r18 = (0 : Int32) then ((let r37 := (f_X6_first σ p1 p2); let r44 := (f_X6_behind σ p1 p2); let z48 := (f_X6_tellsBy σ r37.toInt64 r44.toInt64); let σ48 := z48.1; let r48 := z48.2; (σ48, r48))) else ((let z27 := (f_X6_is σ (6 : Int32)); let σ27 := z27.1; let r27 := z27.2; (σ27, r27))))))
set_option maxHeartbeats 4000000 in
set_option maxRecDepth 100000 in
theorem k_X6_duel (l : Launch) (g : GE) (σ : MS) (p1 : Int32) (p2 : Int32) (hp : 0 ≤ (ga σ 0 (0 : Int32)).toInt ∧ (ga σ 0 (0 : Int32)).toInt ≤ 6) (hIn : ∀ x : Int32, (0 ≤ x.toInt ∧ x.toInt ≤ 5) → 0 ≤ (f_X6_insists σ x).toInt ∧ (f_X6_insists σ x).toInt ≤ 16) : Met l yX6_duel (ws_ yX6_duel cX6_duel 3 (some .boolean)) ({ frames := 3, cells := 0, slots := 0, locals := 63 } : Room) (mPc g σ [.int p1, .int p2]) (mQz g (f_X6_duel σ p1 p2).1 (f_X6_duel σ p1 p2).2 (fun u r => ((ga u 0 (0 : Int32)).toInt = (ga σ 0 (0 : Int32)).toInt))) 0 0 (mA g) := by
  refine met_M (by decide) rfl (Nat.le_of_ble_eq_true rfl) ?_
  intro p e s m args below meth c C hr hlocks h ls hl
  have hx := C.1.1
  have hb := C.1.2.1
  have hml := C.1.2.2.1
  have hown := C.1.2.2.2.1
  have hts := C.1.2.2.2.2
  have hl : lv_has ls 3 [(0, .ref (g.2.1 99)), (1, .int p1), (2, .int p2)] := hl
  have hpq : (ga σ 0 (0 : Int32)).toInt = (ga σ 0 (0 : Int32)).toInt := rfl
  have zl0 : (0 : Int32).toInt = 0 := rfl
  have zl1 : (1 : Int32).toInt = 1 := rfl
  have zl6 : (6 : Int32).toInt = 6 := rfl
  refine lv_aload_n hx hb dX6_duel_0 rfl (lv_at hl 0 rfl) ?_
  refine lv_iload_n hx hb dX6_duel_1 rfl (lv_at hl 1 rfl) ?_
  refine lv_iload_n hx hb dX6_duel_2 rfl (lv_at hl 2 rfl) ?_
  refine M_callz (As := [.int p1, .int p2]) (rest := []) 2 C h (k_X6_areTwo l g σ p1 p2) (lw_V q1998 q2000 qs113 q152 q2001) rfl rfl (by decide +kernel) ⟨Nat.le_of_ble_eq_true rfl, Nat.le_of_ble_eq_true rfl⟩ rfl hl.1 rfl (Nat.le_of_ble_eq_true rfl) ⟨Nat.le_of_ble_eq_true rfl, Nat.le_of_ble_eq_true rfl⟩ dX6_duel_3 (fun r3 σ3 H locs eσ3 er3 br3 hE3 h => ?_)
  rw [eσ3] at h
  clear hE3
  clear eσ3
  refine lv_if_ne (tgt := 15) hx hb dX6_duel_6 (by decide) (fun c6 => ?_) (fun c6 => ?_)
  · have i6 := c_ne c6
    have okr3 := areTwo_ok er3 c6
    refine lv_aload_n hx hb dX6_duel_15 rfl (lv_at hl 0 rfl) ?_
    refine lv_iload_n hx hb dX6_duel_16 rfl (lv_at hl 1 rfl) ?_
    refine lv_iload_n hx hb dX6_duel_17 rfl (lv_at hl 2 rfl) ?_
    refine M_callz (As := [.int p1, .int p2]) (rest := []) 2 C h (k_X6_isEndless l g σ p1 p2 (by first | assumption | omega) (by first | assumption | omega)) (lw_V q2002 q2004 qs114 q152 q2005) rfl rfl (by decide +kernel) ⟨Nat.le_of_ble_eq_true rfl, Nat.le_of_ble_eq_true rfl⟩ rfl hl.1 rfl (Nat.le_of_ble_eq_true rfl) ⟨Nat.le_of_ble_eq_true rfl, Nat.le_of_ble_eq_true rfl⟩ dX6_duel_18 (fun r18 σ18 H locs eσ18 er18 br18 hE18 h => ?_)
    rw [eσ18] at h
    clear hE18
    clear eσ18
    refine lv_if_eq (tgt := 33) hx hb dX6_duel_21 (by decide) (fun c21 => ?_) (fun c21 => ?_)
    · have i21 := c_eq c21
      refine lv_aload_n hx hb dX6_duel_33 rfl (lv_at hl 0 rfl) ?_
      refine lv_aload_n hx hb dX6_duel_34 rfl (lv_at hl 0 rfl) ?_
      refine lv_iload_n hx hb dX6_duel_35 rfl (lv_at hl 1 rfl) ?_
      refine lv_iload_n hx hb dX6_duel_36 rfl (lv_at hl 2 rfl) ?_
      refine M_calli (As := [.int p1, .int p2]) (rest := [.ref (g.2.1 99)]) 2 C h (k_X6_first l g σ p1 p2 (by first | assumption | omega) (by first | assumption | omega)) (lw_V q2010 q2012 qs116 q152 q2013) rfl rfl (by decide +kernel) ⟨Nat.le_of_ble_eq_true rfl, Nat.le_of_ble_eq_true rfl⟩ rfl hl.1 rfl (Nat.le_of_ble_eq_true rfl) ⟨Nat.le_of_ble_eq_true rfl, Nat.le_of_ble_eq_true rfl⟩ dX6_duel_37 (fun r37 σ37 H locs eσ37 er37 hE37 h => ?_)
      rw [eσ37] at h
      clear hE37
      clear eσ37
      refine lv_i2l (v := r37.toInt64) hx hb dX6_duel_40 rfl ?_
      refine lv_aload_n hx hb dX6_duel_41 rfl (lv_at hl 0 rfl) ?_
      refine lv_iload_n hx hb dX6_duel_42 rfl (lv_at hl 1 rfl) ?_
      refine lv_iload_n hx hb dX6_duel_43 rfl (lv_at hl 2 rfl) ?_
      refine M_calli (As := [.int p1, .int p2]) (rest := [.long r37.toInt64, .ref (g.2.1 99)]) 2 C h (k_X6_behind l g σ p1 p2 (by first | assumption | omega) (by first | assumption | omega)) (lw_V q2014 q2016 qs117 q152 q2017) rfl rfl (by decide +kernel) ⟨Nat.le_of_ble_eq_true rfl, Nat.le_of_ble_eq_true rfl⟩ rfl hl.1 rfl (Nat.le_of_ble_eq_true rfl) ⟨Nat.le_of_ble_eq_true rfl, Nat.le_of_ble_eq_true rfl⟩ dX6_duel_44 (fun r44 σ44 H locs eσ44 er44 hE44 h => ?_)
      rw [eσ44] at h
      clear hE44
      clear eσ44
      refine lv_i2l (v := r44.toInt64) hx hb dX6_duel_47 rfl ?_
      refine M_callz (As := [.long r37.toInt64, .long r44.toInt64]) (rest := []) 2 C h (k_X6_tellsBy l g σ r37.toInt64 r44.toInt64 (i2l_ne (ne_pos (by rw [er44]; exact (behind_pos (hIn p1 (by omega)) (hIn p2 (by omega)) (er18.symm.trans c21)).1)))) (lw_V q2018 q2020 qs118 q152 q2021) rfl rfl (by decide +kernel) ⟨Nat.le_of_ble_eq_true rfl, Nat.le_of_ble_eq_true rfl⟩ rfl hl.1 rfl (Nat.le_of_ble_eq_true rfl) ⟨Nat.le_of_ble_eq_true rfl, Nat.le_of_ble_eq_true rfl⟩ dX6_duel_48 (fun r48 σ48 H locs eσ48 er48 br48 hE48 h => ?_)
      clear hE48
      have hNEW : (0 ≤ (ga σ48 0 (0 : Int32)).toInt ∧ (ga σ48 0 (0 : Int32)).toInt ≤ 6) ∧ ((ga σ48 0 (0 : Int32)).toInt = (ga σ 0 (0 : Int32)).toInt) := ⟨(by rw [eσ48, tellsBy_ga] <;> exact hp), (by rw [eσ48, tellsBy_ga] <;> exact hpq)⟩
      obtain ⟨hp, hpq⟩ := hNEW
      have he : f_X6_duel σ p1 p2 = (σ48, r48) := (by have er3 := er3.symm; subst er3; have er18 := er18.symm; subst er18; have er37 := er37.symm; subst er37; have er44 := er44.symm; subst er44; have eσ48 := eσ48.symm; subst eσ48; have er48 := er48.symm; subst er48; exact ((if_neg c6).trans ((if_pos c21).trans rfl)))
      exact M_retz C h hr hlocks (congrArg Prod.fst he) (congrArg Prod.snd he) br48 hpq dX6_duel_51
    · have i21 := c_ne c21
      refine lv_aload_n hx hb dX6_duel_24 rfl (lv_at hl 0 rfl) ?_
      refine lv_bipush (v := 6) hx hb dX6_duel_25 (by decide) ?_
      refine M_callz (As := [.int (6 : Int32)]) (rest := []) 1 C h (k_X6_is l g σ (6 : Int32)) (lw_V q1663 q1665 qs65 q152 q1666) rfl rfl (by decide +kernel) ⟨Nat.le_of_ble_eq_true rfl, Nat.le_of_ble_eq_true rfl⟩ rfl hl.1 rfl (Nat.le_of_ble_eq_true rfl) ⟨Nat.le_of_ble_eq_true rfl, Nat.le_of_ble_eq_true rfl⟩ dX6_duel_27 (fun r27 σ27 H locs eσ27 er27 br27 hE27 h => ?_)
      clear hE27
      have hNEW : (0 ≤ (ga σ27 0 (0 : Int32)).toInt ∧ (ga σ27 0 (0 : Int32)).toInt ≤ 6) ∧ (∀ x : Int32, (0 ≤ x.toInt ∧ x.toInt ≤ 5) → 0 ≤ (f_X6_insists σ27 x).toInt ∧ (f_X6_insists σ27 x).toInt ≤ 16) ∧ ((ga σ27 0 (0 : Int32)).toInt = (ga σ 0 (0 : Int32)).toInt) := ⟨(by rw [eσ27, is_s] <;> exact hp), (by rw [eσ27, is_s] <;> exact hIn), (by rw [eσ27, is_s] <;> exact hpq)⟩
      obtain ⟨hp, hIn, hpq⟩ := hNEW
      refine lv_goto (tgt := 51) hx hb dX6_duel_30 (by decide) ?_
      have he : f_X6_duel σ p1 p2 = (σ27, r27) := (by have er3 := er3.symm; subst er3; have er18 := er18.symm; subst er18; have eσ27 := eσ27.symm; subst eσ27; have er27 := er27.symm; subst er27; exact ((if_neg c6).trans ((if_neg c21).trans rfl)))
      exact M_retz C h hr hlocks (congrArg Prod.fst he) (congrArg Prod.snd he) br27 hpq dX6_duel_51
  · have i6 := c_eq c6
    refine lv_aload_n hx hb dX6_duel_9 rfl (lv_at hl 0 rfl) ?_
    refine lv_iconst (v := 1) hx hb dX6_duel_10 (by decide) ?_
    refine M_callz (As := [.int (1 : Int32)]) (rest := []) 1 C h (k_X6_is l g σ (1 : Int32)) (lw_V q1663 q1665 qs65 q152 q1666) rfl rfl (by decide +kernel) ⟨Nat.le_of_ble_eq_true rfl, Nat.le_of_ble_eq_true rfl⟩ rfl hl.1 rfl (Nat.le_of_ble_eq_true rfl) ⟨Nat.le_of_ble_eq_true rfl, Nat.le_of_ble_eq_true rfl⟩ dX6_duel_11 (fun r11 σ11 H locs eσ11 er11 br11 hE11 h => ?_)
    clear hE11
    have hNEW : (0 ≤ (ga σ11 0 (0 : Int32)).toInt ∧ (ga σ11 0 (0 : Int32)).toInt ≤ 6) ∧ (∀ x : Int32, (0 ≤ x.toInt ∧ x.toInt ≤ 5) → 0 ≤ (f_X6_insists σ11 x).toInt ∧ (f_X6_insists σ11 x).toInt ≤ 16) ∧ ((ga σ11 0 (0 : Int32)).toInt = (ga σ 0 (0 : Int32)).toInt) := ⟨(by rw [eσ11, is_s] <;> exact hp), (by rw [eσ11, is_s] <;> exact hIn), (by rw [eσ11, is_s] <;> exact hpq)⟩
    obtain ⟨hp, hIn, hpq⟩ := hNEW
    have he : f_X6_duel σ p1 p2 = (σ11, r11) := (by have er3 := er3.symm; subst er3; have eσ11 := eσ11.symm; subst eσ11; have er11 := er11.symm; subst er11; exact ((if_pos c6).trans rfl))
    exact M_retz C h hr hlocks (congrArg Prod.fst he) (congrArg Prod.snd he) br11 hpq dX6_duel_14
def f_X6_goes (σ : MS) (p1 : Int32) (p2 : Int32) : MS × Int32 := (let r3 := (f_X6_areTwo σ p1 p2); if r3 = (0 : Int32) then ((let z11 := (f_X6_is σ (1 : Int32)); let σ11 := z11.1; let r11 := z11.2; (σ11, r11))) else ((let r18 := (f_X6_isEndless σ p1 p2); if r18 = (0 : Int32) then ((let r41 := (f_X6_insists σ p1); let r50 := (f_X6_behind σ p1 p2); let z54 := (f_X6_tellsBy σ ((16 : Int64) * ((16 : Int32) + r41).toInt64) r50.toInt64); let σ54 := z54.1; let r54 := z54.2; (σ54, r54))) else ((let z27 := (f_X6_is σ (6 : Int32)); let σ27 := z27.1; let r27 := z27.2; (σ27, r27))))))
set_option maxHeartbeats 4000000 in
set_option maxRecDepth 100000 in
theorem k_X6_goes (l : Launch) (g : GE) (σ : MS) (p1 : Int32) (p2 : Int32) (hp : 0 ≤ (ga σ 0 (0 : Int32)).toInt ∧ (ga σ 0 (0 : Int32)).toInt ≤ 6) (hIn : ∀ x : Int32, (0 ≤ x.toInt ∧ x.toInt ≤ 5) → 0 ≤ (f_X6_insists σ x).toInt ∧ (f_X6_insists σ x).toInt ≤ 16) : Met l yX6_goes (ws_ yX6_goes cX6_goes 3 (some .boolean)) ({ frames := 3, cells := 0, slots := 0, locals := 63 } : Room) (mPc g σ [.int p1, .int p2]) (mQz g (f_X6_goes σ p1 p2).1 (f_X6_goes σ p1 p2).2 (fun u r => ((ga u 0 (0 : Int32)).toInt = (ga σ 0 (0 : Int32)).toInt))) 0 0 (mA g) := by
  refine met_M (by decide) rfl (Nat.le_of_ble_eq_true rfl) ?_
  intro p e s m args below meth c C hr hlocks h ls hl
  have hx := C.1.1
  have hb := C.1.2.1
  have hml := C.1.2.2.1
  have hown := C.1.2.2.2.1
  have hts := C.1.2.2.2.2
  have hl : lv_has ls 3 [(0, .ref (g.2.1 99)), (1, .int p1), (2, .int p2)] := hl
  have hpq : (ga σ 0 (0 : Int32)).toInt = (ga σ 0 (0 : Int32)).toInt := rfl
  have zl0 : (0 : Int32).toInt = 0 := rfl
  have zl1 : (1 : Int32).toInt = 1 := rfl
  have zl6 : (6 : Int32).toInt = 6 := rfl
  have zl16 : (16 : Int32).toInt = 16 := rfl
  refine lv_aload_n hx hb dX6_goes_0 rfl (lv_at hl 0 rfl) ?_
  refine lv_iload_n hx hb dX6_goes_1 rfl (lv_at hl 1 rfl) ?_
  refine lv_iload_n hx hb dX6_goes_2 rfl (lv_at hl 2 rfl) ?_
  refine M_callz (As := [.int p1, .int p2]) (rest := []) 2 C h (k_X6_areTwo l g σ p1 p2) (lw_V q1998 q2000 qs113 q152 q2001) rfl rfl (by decide +kernel) ⟨Nat.le_of_ble_eq_true rfl, Nat.le_of_ble_eq_true rfl⟩ rfl hl.1 rfl (Nat.le_of_ble_eq_true rfl) ⟨Nat.le_of_ble_eq_true rfl, Nat.le_of_ble_eq_true rfl⟩ dX6_goes_3 (fun r3 σ3 H locs eσ3 er3 br3 hE3 h => ?_)
  rw [eσ3] at h
  clear hE3
  clear eσ3
  refine lv_if_ne (tgt := 15) hx hb dX6_goes_6 (by decide) (fun c6 => ?_) (fun c6 => ?_)
  · have i6 := c_ne c6
    have okr3 := areTwo_ok er3 c6
    refine lv_aload_n hx hb dX6_goes_15 rfl (lv_at hl 0 rfl) ?_
    refine lv_iload_n hx hb dX6_goes_16 rfl (lv_at hl 1 rfl) ?_
    refine lv_iload_n hx hb dX6_goes_17 rfl (lv_at hl 2 rfl) ?_
    refine M_callz (As := [.int p1, .int p2]) (rest := []) 2 C h (k_X6_isEndless l g σ p1 p2 (by first | assumption | omega) (by first | assumption | omega)) (lw_V q2002 q2004 qs114 q152 q2005) rfl rfl (by decide +kernel) ⟨Nat.le_of_ble_eq_true rfl, Nat.le_of_ble_eq_true rfl⟩ rfl hl.1 rfl (Nat.le_of_ble_eq_true rfl) ⟨Nat.le_of_ble_eq_true rfl, Nat.le_of_ble_eq_true rfl⟩ dX6_goes_18 (fun r18 σ18 H locs eσ18 er18 br18 hE18 h => ?_)
    rw [eσ18] at h
    clear hE18
    clear eσ18
    refine lv_if_eq (tgt := 33) hx hb dX6_goes_21 (by decide) (fun c21 => ?_) (fun c21 => ?_)
    · have i21 := c_eq c21
      refine lv_aload_n hx hb dX6_goes_33 rfl (lv_at hl 0 rfl) ?_
      refine lv_ldc2 hx hb hown (hts _ q2026) dX6_goes_34 ?_
      refine lv_bipush (v := 16) hx hb dX6_goes_37 (by decide) ?_
      refine lv_aload_n hx hb dX6_goes_39 rfl (lv_at hl 0 rfl) ?_
      refine lv_iload_n hx hb dX6_goes_40 rfl (lv_at hl 1 rfl) ?_
      refine M_calli (As := [.int p1]) (rest := [.int (16 : Int32), .long (16 : Int64), .ref (g.2.1 99)]) 1 C h (k_X6_insists l g σ p1 (by first | assumption | omega)) (lw_V q2006 q2008 qs115 q152 q2009) rfl rfl (by decide +kernel) ⟨Nat.le_of_ble_eq_true rfl, Nat.le_of_ble_eq_true rfl⟩ rfl hl.1 rfl (Nat.le_of_ble_eq_true rfl) ⟨Nat.le_of_ble_eq_true rfl, Nat.le_of_ble_eq_true rfl⟩ dX6_goes_41 (fun r41 σ41 H locs eσ41 er41 hE41 h => ?_)
      rw [eσ41] at h
      clear hE41
      clear eσ41
      refine lv_iadd hx hb dX6_goes_44 ?_
      refine lv_i2l (v := ((16 : Int32) + r41).toInt64) hx hb dX6_goes_45 rfl ?_
      refine lv_lmul hx hb dX6_goes_46 ?_
      refine lv_aload_n hx hb dX6_goes_47 rfl (lv_at hl 0 rfl) ?_
      refine lv_iload_n hx hb dX6_goes_48 rfl (lv_at hl 1 rfl) ?_
      refine lv_iload_n hx hb dX6_goes_49 rfl (lv_at hl 2 rfl) ?_
      refine M_calli (As := [.int p1, .int p2]) (rest := [.long ((16 : Int64) * ((16 : Int32) + r41).toInt64), .ref (g.2.1 99)]) 2 C h (k_X6_behind l g σ p1 p2 (by first | assumption | omega) (by first | assumption | omega)) (lw_V q2014 q2016 qs117 q152 q2017) rfl rfl (by decide +kernel) ⟨Nat.le_of_ble_eq_true rfl, Nat.le_of_ble_eq_true rfl⟩ rfl hl.1 rfl (Nat.le_of_ble_eq_true rfl) ⟨Nat.le_of_ble_eq_true rfl, Nat.le_of_ble_eq_true rfl⟩ dX6_goes_50 (fun r50 σ50 H locs eσ50 er50 hE50 h => ?_)
      rw [eσ50] at h
      clear hE50
      clear eσ50
      refine lv_i2l (v := r50.toInt64) hx hb dX6_goes_53 rfl ?_
      refine M_callz (As := [.long ((16 : Int64) * ((16 : Int32) + r41).toInt64), .long r50.toInt64]) (rest := []) 2 C h (k_X6_tellsBy l g σ ((16 : Int64) * ((16 : Int32) + r41).toInt64) r50.toInt64 (i2l_ne (ne_pos (by rw [er50]; exact (behind_pos (hIn p1 (by omega)) (hIn p2 (by omega)) (er18.symm.trans c21)).1)))) (lw_V q2018 q2020 qs118 q152 q2021) rfl rfl (by decide +kernel) ⟨Nat.le_of_ble_eq_true rfl, Nat.le_of_ble_eq_true rfl⟩ rfl hl.1 rfl (Nat.le_of_ble_eq_true rfl) ⟨Nat.le_of_ble_eq_true rfl, Nat.le_of_ble_eq_true rfl⟩ dX6_goes_54 (fun r54 σ54 H locs eσ54 er54 br54 hE54 h => ?_)
      clear hE54
      have hNEW : (0 ≤ (ga σ54 0 (0 : Int32)).toInt ∧ (ga σ54 0 (0 : Int32)).toInt ≤ 6) ∧ ((ga σ54 0 (0 : Int32)).toInt = (ga σ 0 (0 : Int32)).toInt) := ⟨(by rw [eσ54, tellsBy_ga] <;> exact hp), (by rw [eσ54, tellsBy_ga] <;> exact hpq)⟩
      obtain ⟨hp, hpq⟩ := hNEW
      have he : f_X6_goes σ p1 p2 = (σ54, r54) := (by have er3 := er3.symm; subst er3; have er18 := er18.symm; subst er18; have er41 := er41.symm; subst er41; have er50 := er50.symm; subst er50; have eσ54 := eσ54.symm; subst eσ54; have er54 := er54.symm; subst er54; exact ((if_neg c6).trans ((if_pos c21).trans rfl)))
      exact M_retz C h hr hlocks (congrArg Prod.fst he) (congrArg Prod.snd he) br54 hpq dX6_goes_57
    · have i21 := c_ne c21
      refine lv_aload_n hx hb dX6_goes_24 rfl (lv_at hl 0 rfl) ?_
      refine lv_bipush (v := 6) hx hb dX6_goes_25 (by decide) ?_
      refine M_callz (As := [.int (6 : Int32)]) (rest := []) 1 C h (k_X6_is l g σ (6 : Int32)) (lw_V q1663 q1665 qs65 q152 q1666) rfl rfl (by decide +kernel) ⟨Nat.le_of_ble_eq_true rfl, Nat.le_of_ble_eq_true rfl⟩ rfl hl.1 rfl (Nat.le_of_ble_eq_true rfl) ⟨Nat.le_of_ble_eq_true rfl, Nat.le_of_ble_eq_true rfl⟩ dX6_goes_27 (fun r27 σ27 H locs eσ27 er27 br27 hE27 h => ?_)
      clear hE27
      have hNEW : (0 ≤ (ga σ27 0 (0 : Int32)).toInt ∧ (ga σ27 0 (0 : Int32)).toInt ≤ 6) ∧ (∀ x : Int32, (0 ≤ x.toInt ∧ x.toInt ≤ 5) → 0 ≤ (f_X6_insists σ27 x).toInt ∧ (f_X6_insists σ27 x).toInt ≤ 16) ∧ ((ga σ27 0 (0 : Int32)).toInt = (ga σ 0 (0 : Int32)).toInt) := ⟨(by rw [eσ27, is_s] <;> exact hp), (by rw [eσ27, is_s] <;> exact hIn), (by rw [eσ27, is_s] <;> exact hpq)⟩
      obtain ⟨hp, hIn, hpq⟩ := hNEW
      refine lv_goto (tgt := 57) hx hb dX6_goes_30 (by decide) ?_
      have he : f_X6_goes σ p1 p2 = (σ27, r27) := (by have er3 := er3.symm; subst er3; have er18 := er18.symm; subst er18; have eσ27 := eσ27.symm; subst eσ27; have er27 := er27.symm; subst er27; exact ((if_neg c6).trans ((if_neg c21).trans rfl)))
      exact M_retz C h hr hlocks (congrArg Prod.fst he) (congrArg Prod.snd he) br27 hpq dX6_goes_57
  · have i6 := c_eq c6
    refine lv_aload_n hx hb dX6_goes_9 rfl (lv_at hl 0 rfl) ?_
    refine lv_iconst (v := 1) hx hb dX6_goes_10 (by decide) ?_
    refine M_callz (As := [.int (1 : Int32)]) (rest := []) 1 C h (k_X6_is l g σ (1 : Int32)) (lw_V q1663 q1665 qs65 q152 q1666) rfl rfl (by decide +kernel) ⟨Nat.le_of_ble_eq_true rfl, Nat.le_of_ble_eq_true rfl⟩ rfl hl.1 rfl (Nat.le_of_ble_eq_true rfl) ⟨Nat.le_of_ble_eq_true rfl, Nat.le_of_ble_eq_true rfl⟩ dX6_goes_11 (fun r11 σ11 H locs eσ11 er11 br11 hE11 h => ?_)
    clear hE11
    have hNEW : (0 ≤ (ga σ11 0 (0 : Int32)).toInt ∧ (ga σ11 0 (0 : Int32)).toInt ≤ 6) ∧ (∀ x : Int32, (0 ≤ x.toInt ∧ x.toInt ≤ 5) → 0 ≤ (f_X6_insists σ11 x).toInt ∧ (f_X6_insists σ11 x).toInt ≤ 16) ∧ ((ga σ11 0 (0 : Int32)).toInt = (ga σ 0 (0 : Int32)).toInt) := ⟨(by rw [eσ11, is_s] <;> exact hp), (by rw [eσ11, is_s] <;> exact hIn), (by rw [eσ11, is_s] <;> exact hpq)⟩
    obtain ⟨hp, hIn, hpq⟩ := hNEW
    have he : f_X6_goes σ p1 p2 = (σ11, r11) := (by have er3 := er3.symm; subst er3; have eσ11 := eσ11.symm; subst eσ11; have er11 := er11.symm; subst er11; exact ((if_pos c6).trans rfl))
    exact M_retz C h hr hlocks (congrArg Prod.fst he) (congrArg Prod.snd he) br11 hpq dX6_goes_14
def f_X6_reach (σ : MS) (p1 : Int32) (p2 : Int32) : MS × Int32 := if p1 < (0 : Int32) then ((let z31 := (f_X6_is σ (1 : Int32)); let σ31 := z31.1; let r31 := z31.2; (σ31, r31))) else ((let r6 := (f_X6_everybody σ); if r6 < p1 then ((let z31 := (f_X6_is σ (1 : Int32)); let σ31 := z31.1; let r31 := z31.2; (σ31, r31))) else ((let r14 := (f_X6_isPerson σ p2); if r14 = (0 : Int32) then ((let z31 := (f_X6_is σ (1 : Int32)); let σ31 := z31.1; let r31 := z31.2; (σ31, r31))) else ((let r23 := (f_X6_isIn σ p1 p2); if r23 = (0 : Int32) then ((let z31 := (f_X6_is σ (1 : Int32)); let σ31 := z31.1; let r31 := z31.2; (σ31, r31))) else ((let r37 := (f_X6_quickOf σ p1); if r37 = (0 : Int32) then ((let z46 := (f_X6_is σ (6 : Int32)); let σ46 := z46.1; let r46 := z46.2; (σ46, r46))) else ((let r58 := (f_X6_personRow p2); let r67 := (f_X6_quickOf σ p1); let z71 := (f_X6_tellsBy σ (ga σ 0 (r58 + (1 : Int32))).toInt64 r67.toInt64); let σ71 := z71.1; let r71 := z71.2; (σ71, r71)))))))))))
set_option maxHeartbeats 4000000 in
set_option maxRecDepth 100000 in
theorem k_X6_reach (l : Launch) (g : GE) (σ : MS) (p1 : Int32) (p2 : Int32) (hp : 0 ≤ (ga σ 0 (0 : Int32)).toInt ∧ (ga σ 0 (0 : Int32)).toInt ≤ 6) : Met l yX6_reach (ws_ yX6_reach cX6_reach 3 (some .boolean)) ({ frames := 2, cells := 0, slots := 0, locals := 51 } : Room) (mPc g σ [.int p1, .int p2]) (mQz g (f_X6_reach σ p1 p2).1 (f_X6_reach σ p1 p2).2 (fun u r => ((ga u 0 (0 : Int32)).toInt = (ga σ 0 (0 : Int32)).toInt))) 0 0 (mA g) := by
  refine met_M (by decide) rfl (Nat.le_of_ble_eq_true rfl) ?_
  intro p e s m args below meth c C hr hlocks h ls hl
  have hx := C.1.1
  have hb := C.1.2.1
  have hml := C.1.2.2.1
  have hown := C.1.2.2.2.1
  have hts := C.1.2.2.2.2
  have hl : lv_has ls 3 [(0, .ref (g.2.1 99)), (1, .int p1), (2, .int p2)] := hl
  have hpq : (ga σ 0 (0 : Int32)).toInt = (ga σ 0 (0 : Int32)).toInt := rfl
  have zl0 : (0 : Int32).toInt = 0 := rfl
  have zl1 : (1 : Int32).toInt = 1 := rfl
  have zl6 : (6 : Int32).toInt = 6 := rfl
  have zl8 : (8 : Int32).toInt = 8 := rfl
  have zl12 : (12 : Int32).toInt = 12 := rfl
  refine lv_iload_n hx hb dX6_reach_0 rfl (lv_at hl 1 rfl) ?_
  refine lv_if_lt (tgt := 29) hx hb dX6_reach_1 (by decide) (fun c1 => ?_) (fun c1 => ?_)
  · have i1 := c_lt c1
    refine lv_aload_n hx hb dX6_reach_29 rfl (lv_at hl 0 rfl) ?_
    refine lv_iconst (v := 1) hx hb dX6_reach_30 (by decide) ?_
    refine M_callz (As := [.int (1 : Int32)]) (rest := []) 1 C h (k_X6_is l g σ (1 : Int32)) (lw_V q1663 q1665 qs65 q152 q1666) rfl rfl (by decide +kernel) ⟨Nat.le_of_ble_eq_true rfl, Nat.le_of_ble_eq_true rfl⟩ rfl hl.1 rfl (Nat.le_of_ble_eq_true rfl) ⟨Nat.le_of_ble_eq_true rfl, Nat.le_of_ble_eq_true rfl⟩ dX6_reach_31 (fun r31 σ31 H locs eσ31 er31 br31 hE31 h => ?_)
    clear hE31
    have hNEW : (0 ≤ (ga σ31 0 (0 : Int32)).toInt ∧ (ga σ31 0 (0 : Int32)).toInt ≤ 6) ∧ ((ga σ31 0 (0 : Int32)).toInt = (ga σ 0 (0 : Int32)).toInt) := ⟨(by rw [eσ31, is_s] <;> exact hp), (by rw [eσ31, is_s] <;> exact hpq)⟩
    obtain ⟨hp, hpq⟩ := hNEW
    have he : f_X6_reach σ p1 p2 = (σ31, r31) := (by have eσ31 := eσ31.symm; subst eσ31; have er31 := er31.symm; subst er31; exact ((if_pos c1).trans rfl))
    exact M_retz C h hr hlocks (congrArg Prod.fst he) (congrArg Prod.snd he) br31 hpq dX6_reach_34
  · have i1 := c_nlt c1
    refine lv_iload_n hx hb dX6_reach_4 rfl (lv_at hl 1 rfl) ?_
    refine lv_aload_n hx hb dX6_reach_5 rfl (lv_at hl 0 rfl) ?_
    refine M_calli (As := []) (rest := [.int p1]) 0 C h (k_X6_everybody l g σ) (lw_V q1846 q1848 qs99 q152 q1849) rfl rfl (by decide +kernel) ⟨Nat.le_of_ble_eq_true rfl, Nat.le_of_ble_eq_true rfl⟩ rfl hl.1 rfl (Nat.le_of_ble_eq_true rfl) ⟨Nat.le_of_ble_eq_true rfl, Nat.le_of_ble_eq_true rfl⟩ dX6_reach_6 (fun r6 σ6 H locs eσ6 er6 hE6 h => ?_)
    rw [eσ6] at h
    clear hE6
    clear eσ6
    have rgr6 := everybody_rng hp er6
    refine lv_icmp_gt (tgt := 29) hx hb dX6_reach_9 (by decide) (fun c9 => ?_) (fun c9 => ?_)
    · have i9 := c_lt c9
      refine lv_aload_n hx hb dX6_reach_29 rfl (lv_at hl 0 rfl) ?_
      refine lv_iconst (v := 1) hx hb dX6_reach_30 (by decide) ?_
      refine M_callz (As := [.int (1 : Int32)]) (rest := []) 1 C h (k_X6_is l g σ (1 : Int32)) (lw_V q1663 q1665 qs65 q152 q1666) rfl rfl (by decide +kernel) ⟨Nat.le_of_ble_eq_true rfl, Nat.le_of_ble_eq_true rfl⟩ rfl hl.1 rfl (Nat.le_of_ble_eq_true rfl) ⟨Nat.le_of_ble_eq_true rfl, Nat.le_of_ble_eq_true rfl⟩ dX6_reach_31 (fun r31 σ31 H locs eσ31 er31 br31 hE31 h => ?_)
      clear hE31
      have hNEW : (0 ≤ (ga σ31 0 (0 : Int32)).toInt ∧ (ga σ31 0 (0 : Int32)).toInt ≤ 6) ∧ ((ga σ31 0 (0 : Int32)).toInt = (ga σ 0 (0 : Int32)).toInt) := ⟨(by rw [eσ31, is_s] <;> exact hp), (by rw [eσ31, is_s] <;> exact hpq)⟩
      obtain ⟨hp, hpq⟩ := hNEW
      have he : f_X6_reach σ p1 p2 = (σ31, r31) := (by have er6 := er6.symm; subst er6; have eσ31 := eσ31.symm; subst eσ31; have er31 := er31.symm; subst er31; exact ((if_neg c1).trans ((if_pos c9).trans rfl)))
      exact M_retz C h hr hlocks (congrArg Prod.fst he) (congrArg Prod.snd he) br31 hpq dX6_reach_34
    · have i9 := c_nlt c9
      refine lv_aload_n hx hb dX6_reach_12 rfl (lv_at hl 0 rfl) ?_
      refine lv_iload_n hx hb dX6_reach_13 rfl (lv_at hl 2 rfl) ?_
      refine M_callz (As := [.int p2]) (rest := []) 1 C h (k_X6_isPerson l g σ p2) (lw_V q1864 q1866 qs101 q152 q1867) rfl rfl (by decide +kernel) ⟨Nat.le_of_ble_eq_true rfl, Nat.le_of_ble_eq_true rfl⟩ rfl hl.1 rfl (Nat.le_of_ble_eq_true rfl) ⟨Nat.le_of_ble_eq_true rfl, Nat.le_of_ble_eq_true rfl⟩ dX6_reach_14 (fun r14 σ14 H locs eσ14 er14 br14 hE14 h => ?_)
      rw [eσ14] at h
      clear hE14
      clear eσ14
      refine lv_if_eq (tgt := 29) hx hb dX6_reach_17 (by decide) (fun c17 => ?_) (fun c17 => ?_)
      · have i17 := c_eq c17
        refine lv_aload_n hx hb dX6_reach_29 rfl (lv_at hl 0 rfl) ?_
        refine lv_iconst (v := 1) hx hb dX6_reach_30 (by decide) ?_
        refine M_callz (As := [.int (1 : Int32)]) (rest := []) 1 C h (k_X6_is l g σ (1 : Int32)) (lw_V q1663 q1665 qs65 q152 q1666) rfl rfl (by decide +kernel) ⟨Nat.le_of_ble_eq_true rfl, Nat.le_of_ble_eq_true rfl⟩ rfl hl.1 rfl (Nat.le_of_ble_eq_true rfl) ⟨Nat.le_of_ble_eq_true rfl, Nat.le_of_ble_eq_true rfl⟩ dX6_reach_31 (fun r31 σ31 H locs eσ31 er31 br31 hE31 h => ?_)
        clear hE31
        have hNEW : (0 ≤ (ga σ31 0 (0 : Int32)).toInt ∧ (ga σ31 0 (0 : Int32)).toInt ≤ 6) ∧ ((ga σ31 0 (0 : Int32)).toInt = (ga σ 0 (0 : Int32)).toInt) := ⟨(by rw [eσ31, is_s] <;> exact hp), (by rw [eσ31, is_s] <;> exact hpq)⟩
        obtain ⟨hp, hpq⟩ := hNEW
        have he : f_X6_reach σ p1 p2 = (σ31, r31) := (by have er6 := er6.symm; subst er6; have er14 := er14.symm; subst er14; have eσ31 := eσ31.symm; subst eσ31; have er31 := er31.symm; subst er31; exact ((if_neg c1).trans ((if_neg c9).trans ((if_pos c17).trans rfl))))
        exact M_retz C h hr hlocks (congrArg Prod.fst he) (congrArg Prod.snd he) br31 hpq dX6_reach_34
      · have i17 := c_ne c17
        have okr14 := isPerson_ok er14 c17
        refine lv_aload_n hx hb dX6_reach_20 rfl (lv_at hl 0 rfl) ?_
        refine lv_iload_n hx hb dX6_reach_21 rfl (lv_at hl 1 rfl) ?_
        refine lv_iload_n hx hb dX6_reach_22 rfl (lv_at hl 2 rfl) ?_
        refine M_callz (As := [.int p1, .int p2]) (rest := []) 2 C h (k_X6_isIn l g σ p1 p2) (lw_V q1906 q1908 qs107 q152 q1909) rfl rfl (by decide +kernel) ⟨Nat.le_of_ble_eq_true rfl, Nat.le_of_ble_eq_true rfl⟩ rfl hl.1 rfl (Nat.le_of_ble_eq_true rfl) ⟨Nat.le_of_ble_eq_true rfl, Nat.le_of_ble_eq_true rfl⟩ dX6_reach_23 (fun r23 σ23 H locs eσ23 er23 br23 hE23 h => ?_)
        rw [eσ23] at h
        clear hE23
        clear eσ23
        refine lv_if_ne (tgt := 35) hx hb dX6_reach_26 (by decide) (fun c26 => ?_) (fun c26 => ?_)
        · have i26 := c_ne c26
          have okr23 := isIn_ok er23 c26
          refine lv_aload_n hx hb dX6_reach_35 rfl (lv_at hl 0 rfl) ?_
          refine lv_iload_n hx hb dX6_reach_36 rfl (lv_at hl 1 rfl) ?_
          refine M_calli (As := [.int p1]) (rest := []) 1 C h (k_X6_quickOf l g σ p1 (by first | assumption | omega)) (lw_V q2036 q2038 qs119 q152 q2039) rfl rfl (by decide +kernel) ⟨Nat.le_of_ble_eq_true rfl, Nat.le_of_ble_eq_true rfl⟩ rfl hl.1 rfl (Nat.le_of_ble_eq_true rfl) ⟨Nat.le_of_ble_eq_true rfl, Nat.le_of_ble_eq_true rfl⟩ dX6_reach_37 (fun r37 σ37 H locs eσ37 er37 hE37 h => ?_)
          rw [eσ37] at h
          clear hE37
          clear eσ37
          refine lv_if_ne (tgt := 52) hx hb dX6_reach_40 (by decide) (fun c40 => ?_) (fun c40 => ?_)
          · have i40 := c_ne c40
            refine lv_aload_n hx hb dX6_reach_52 rfl (lv_at hl 0 rfl) ?_
            refine lv_aload_n hx hb dX6_reach_53 rfl (lv_at hl 0 rfl) ?_
            refine Mg_0 C h dX6_reach_54 ?_
            refine lv_iload_n hx hb dX6_reach_57 rfl (lv_at hl 2 rfl) ?_
            refine s_calli (As := [.int p2]) (rest := [.ref (g.2.1 0), .ref (g.2.1 99)]) 1 C.1 (k_X6_personRow l p2) (lw_S q1857 q1858 q152 q1859) rfl rfl (by decide +kernel) ⟨Nat.le_of_ble_eq_true rfl, Nat.le_of_ble_eq_true rfl⟩ rfl hl.1 rfl (Nat.le_of_ble_eq_true rfl) ⟨Nat.le_of_ble_eq_true rfl, Nat.le_of_ble_eq_true rfl⟩ dX6_reach_58 h.2.2 (fun r58 H locs er58 hz1 hk1 hS1 => ?_)
            have h := h.same hk1 hS1
            clear hz1 hk1 hS1
            have tr58 : r58.toInt = ((12) + ((8) * p2.toInt)) := by rw [er58]; exact (i_add zl12 (i_mul zl8 (rfl : p2.toInt = p2.toInt) (by omega)) (by omega))
            refine lv_iconst (v := 1) hx hb dX6_reach_61 (by decide) ?_
            refine lv_iadd hx hb dX6_reach_62 ?_
            refine Ml_0 C h (ix_of (i_add tr58 zl1 (by omega)) (by omega)) dX6_reach_63 ?_
            refine lv_i2l (v := (ga σ 0 (r58 + (1 : Int32))).toInt64) hx hb dX6_reach_64 rfl ?_
            refine lv_aload_n hx hb dX6_reach_65 rfl (lv_at hl 0 rfl) ?_
            refine lv_iload_n hx hb dX6_reach_66 rfl (lv_at hl 1 rfl) ?_
            refine M_calli (As := [.int p1]) (rest := [.long (ga σ 0 (r58 + (1 : Int32))).toInt64, .ref (g.2.1 99)]) 1 C h (k_X6_quickOf l g σ p1 (by first | assumption | omega)) (lw_V q2036 q2038 qs119 q152 q2039) rfl rfl (by decide +kernel) ⟨Nat.le_of_ble_eq_true rfl, Nat.le_of_ble_eq_true rfl⟩ rfl hl.1 rfl (Nat.le_of_ble_eq_true rfl) ⟨Nat.le_of_ble_eq_true rfl, Nat.le_of_ble_eq_true rfl⟩ dX6_reach_67 (fun r67 σ67 H locs eσ67 er67 hE67 h => ?_)
            rw [eσ67] at h
            clear hE67
            clear eσ67
            refine lv_i2l (v := r67.toInt64) hx hb dX6_reach_70 rfl ?_
            refine M_callz (As := [.long (ga σ 0 (r58 + (1 : Int32))).toInt64, .long r67.toInt64]) (rest := []) 2 C h (k_X6_tellsBy l g σ (ga σ 0 (r58 + (1 : Int32))).toInt64 r67.toInt64 (i2l_ne (by rw [er67, ← er37]; exact c40))) (lw_V q2018 q2020 qs118 q152 q2021) rfl rfl (by decide +kernel) ⟨Nat.le_of_ble_eq_true rfl, Nat.le_of_ble_eq_true rfl⟩ rfl hl.1 rfl (Nat.le_of_ble_eq_true rfl) ⟨Nat.le_of_ble_eq_true rfl, Nat.le_of_ble_eq_true rfl⟩ dX6_reach_71 (fun r71 σ71 H locs eσ71 er71 br71 hE71 h => ?_)
            clear hE71
            have hNEW : (0 ≤ (ga σ71 0 (0 : Int32)).toInt ∧ (ga σ71 0 (0 : Int32)).toInt ≤ 6) ∧ ((ga σ71 0 (0 : Int32)).toInt = (ga σ 0 (0 : Int32)).toInt) := ⟨(by rw [eσ71, tellsBy_ga] <;> exact hp), (by rw [eσ71, tellsBy_ga] <;> exact hpq)⟩
            obtain ⟨hp, hpq⟩ := hNEW
            have he : f_X6_reach σ p1 p2 = (σ71, r71) := (by have er6 := er6.symm; subst er6; have er14 := er14.symm; subst er14; have er23 := er23.symm; subst er23; have er37 := er37.symm; subst er37; have er58 := er58.symm; subst er58; have er67 := er67.symm; subst er67; have eσ71 := eσ71.symm; subst eσ71; have er71 := er71.symm; subst er71; exact ((if_neg c1).trans ((if_neg c9).trans ((if_neg c17).trans ((if_neg c26).trans ((if_neg c40).trans rfl))))))
            exact M_retz C h hr hlocks (congrArg Prod.fst he) (congrArg Prod.snd he) br71 hpq dX6_reach_74
          · have i40 := c_eq c40
            refine lv_aload_n hx hb dX6_reach_43 rfl (lv_at hl 0 rfl) ?_
            refine lv_bipush (v := 6) hx hb dX6_reach_44 (by decide) ?_
            refine M_callz (As := [.int (6 : Int32)]) (rest := []) 1 C h (k_X6_is l g σ (6 : Int32)) (lw_V q1663 q1665 qs65 q152 q1666) rfl rfl (by decide +kernel) ⟨Nat.le_of_ble_eq_true rfl, Nat.le_of_ble_eq_true rfl⟩ rfl hl.1 rfl (Nat.le_of_ble_eq_true rfl) ⟨Nat.le_of_ble_eq_true rfl, Nat.le_of_ble_eq_true rfl⟩ dX6_reach_46 (fun r46 σ46 H locs eσ46 er46 br46 hE46 h => ?_)
            clear hE46
            have hNEW : (0 ≤ (ga σ46 0 (0 : Int32)).toInt ∧ (ga σ46 0 (0 : Int32)).toInt ≤ 6) ∧ ((ga σ46 0 (0 : Int32)).toInt = (ga σ 0 (0 : Int32)).toInt) := ⟨(by rw [eσ46, is_s] <;> exact hp), (by rw [eσ46, is_s] <;> exact hpq)⟩
            obtain ⟨hp, hpq⟩ := hNEW
            refine lv_goto (tgt := 74) hx hb dX6_reach_49 (by decide) ?_
            have he : f_X6_reach σ p1 p2 = (σ46, r46) := (by have er6 := er6.symm; subst er6; have er14 := er14.symm; subst er14; have er23 := er23.symm; subst er23; have er37 := er37.symm; subst er37; have eσ46 := eσ46.symm; subst eσ46; have er46 := er46.symm; subst er46; exact ((if_neg c1).trans ((if_neg c9).trans ((if_neg c17).trans ((if_neg c26).trans ((if_pos c40).trans rfl))))))
            exact M_retz C h hr hlocks (congrArg Prod.fst he) (congrArg Prod.snd he) br46 hpq dX6_reach_74
        · have i26 := c_eq c26
          refine lv_aload_n hx hb dX6_reach_29 rfl (lv_at hl 0 rfl) ?_
          refine lv_iconst (v := 1) hx hb dX6_reach_30 (by decide) ?_
          refine M_callz (As := [.int (1 : Int32)]) (rest := []) 1 C h (k_X6_is l g σ (1 : Int32)) (lw_V q1663 q1665 qs65 q152 q1666) rfl rfl (by decide +kernel) ⟨Nat.le_of_ble_eq_true rfl, Nat.le_of_ble_eq_true rfl⟩ rfl hl.1 rfl (Nat.le_of_ble_eq_true rfl) ⟨Nat.le_of_ble_eq_true rfl, Nat.le_of_ble_eq_true rfl⟩ dX6_reach_31 (fun r31 σ31 H locs eσ31 er31 br31 hE31 h => ?_)
          clear hE31
          have hNEW : (0 ≤ (ga σ31 0 (0 : Int32)).toInt ∧ (ga σ31 0 (0 : Int32)).toInt ≤ 6) ∧ ((ga σ31 0 (0 : Int32)).toInt = (ga σ 0 (0 : Int32)).toInt) := ⟨(by rw [eσ31, is_s] <;> exact hp), (by rw [eσ31, is_s] <;> exact hpq)⟩
          obtain ⟨hp, hpq⟩ := hNEW
          have he : f_X6_reach σ p1 p2 = (σ31, r31) := (by have er6 := er6.symm; subst er6; have er14 := er14.symm; subst er14; have er23 := er23.symm; subst er23; have eσ31 := eσ31.symm; subst eσ31; have er31 := er31.symm; subst er31; exact ((if_neg c1).trans ((if_neg c9).trans ((if_neg c17).trans ((if_pos c26).trans rfl)))))
          exact M_retz C h hr hlocks (congrArg Prod.fst he) (congrArg Prod.snd he) br31 hpq dX6_reach_34
def f_X6_easyOn_L18 (σ : MS) (y1_18 : Int32) : Nat → Int32 → Int32 → Int32 × Int32
  | 0, x2_18, x3_18 => (x2_18, x3_18)
  | n + 1, x2_18, x3_18 => if (ga σ 0 (0 : Int32)) ≤ x3_18 then ((x2_18, x3_18)) else (if x3_18 = y1_18 then (f_X6_easyOn_L18 σ y1_18 n x2_18 (x3_18 + (1 : Int32))) else ((let r36 := (f_X6_isEndless σ y1_18 x3_18); if r36 = (0 : Int32) then (if x2_18 = (-1 : Int32) then (f_X6_easyOn_L18 σ y1_18 n x3_18 (x3_18 + (1 : Int32))) else ((let r53 := (f_X6_first σ y1_18 x3_18); let r59 := (f_X6_behind σ y1_18 x2_18); let r66 := (f_X6_first σ y1_18 x2_18); let r72 := (f_X6_behind σ y1_18 x3_18); if (r66 * r72) ≤ (r53 * r59) then (f_X6_easyOn_L18 σ y1_18 n x2_18 (x3_18 + (1 : Int32))) else (f_X6_easyOn_L18 σ y1_18 n x3_18 (x3_18 + (1 : Int32)))))) else (f_X6_easyOn_L18 σ y1_18 n x2_18 (x3_18 + (1 : Int32))))))
def f_X6_easyOn (σ : MS) (p1 : Int32) : MS × Int32 := (let r2 := (f_X6_isPerson σ p1); if r2 = (0 : Int32) then ((let z10 := (f_X6_refuse σ (1 : Int32)); let σ10 := z10.1; let r10 := z10.2; (σ10, r10))) else ((let zL18 := f_X6_easyOn_L18 σ p1 (7) (-1 : Int32) (0 : Int32); let x2_18e := zL18.1; let x3_18e := zL18.2; (let z89 := (f_X6_orNone σ x2_18e); let σ89 := z89.1; let r89 := z89.2; (σ89, r89)))))
set_option maxHeartbeats 4000000 in
set_option maxRecDepth 100000 in
theorem k_X6_easyOn (l : Launch) (g : GE) (σ : MS) (p1 : Int32) (hp : 0 ≤ (ga σ 0 (0 : Int32)).toInt ∧ (ga σ 0 (0 : Int32)).toInt ≤ 6) : Met l yX6_easyOn (ws_ yX6_easyOn cX6_easyOn 4 (some .int)) ({ frames := 3, cells := 0, slots := 0, locals := 63 } : Room) (mPc g σ [.int p1]) (mQi g (f_X6_easyOn σ p1).1 (f_X6_easyOn σ p1).2 (fun u r => ((ga u 0 (0 : Int32)).toInt = (ga σ 0 (0 : Int32)).toInt))) 0 0 (mA g) := by
  refine met_M (by decide) rfl (Nat.le_of_ble_eq_true rfl) ?_
  intro p e s m args below meth c C hr hlocks h ls hl
  have hx := C.1.1
  have hb := C.1.2.1
  have hml := C.1.2.2.1
  have hown := C.1.2.2.2.1
  have hts := C.1.2.2.2.2
  have hl : lv_has ls 4 [(0, .ref (g.2.1 99)), (1, .int p1)] := hl
  have hpq : (ga σ 0 (0 : Int32)).toInt = (ga σ 0 (0 : Int32)).toInt := rfl
  have zlm1 : (-1 : Int32).toInt = -1 := rfl
  have zl0 : (0 : Int32).toInt = 0 := rfl
  have zl1 : (1 : Int32).toInt = 1 := rfl
  refine lv_aload_n hx hb dX6_easyOn_0 rfl (lv_at hl 0 rfl) ?_
  refine lv_iload_n hx hb dX6_easyOn_1 rfl (lv_at hl 1 rfl) ?_
  refine M_callz (As := [.int p1]) (rest := []) 1 C h (k_X6_isPerson l g σ p1) (lw_V q1864 q1866 qs101 q152 q1867) rfl rfl (by decide +kernel) ⟨Nat.le_of_ble_eq_true rfl, Nat.le_of_ble_eq_true rfl⟩ rfl hl.1 rfl (Nat.le_of_ble_eq_true rfl) ⟨Nat.le_of_ble_eq_true rfl, Nat.le_of_ble_eq_true rfl⟩ dX6_easyOn_2 (fun r2 σ2 H locs eσ2 er2 br2 hE2 h => ?_)
  rw [eσ2] at h
  clear hE2
  clear eσ2
  refine lv_if_ne (tgt := 14) hx hb dX6_easyOn_5 (by decide) (fun c5 => ?_) (fun c5 => ?_)
  · have i5 := c_ne c5
    have okr2 := isPerson_ok er2 c5
    refine lv_iconst (v := -1) hx hb dX6_easyOn_14 (by decide) ?_
    refine lv_istore_n (lv' := [(2, .int (-1 : Int32)), (0, .ref (g.2.1 99)), (1, .int p1)]) hx hb dX6_easyOn_15 rfl hl (by decide) rfl (fun ls hl => ?_)
    refine lv_iconst (v := 0) hx hb dX6_easyOn_16 (by decide) ?_
    refine lv_istore_n (lv' := [(3, .int (0 : Int32)), (2, .int (-1 : Int32)), (0, .ref (g.2.1 99)), (1, .int p1)]) hx hb dX6_easyOn_17 rfl hl (by decide) rfl (fun ls hl => ?_)
    have hL18 : ∀ (n : Nat) (x2_18 : Int32) (x3_18 : Int32) (H : Heap) (locs : List Loc) (ls : Array Slot), (0 ≤ x3_18.toInt ∧ x3_18.toInt ≤ (ga σ 0 (0 : Int32)).toInt ∧ -1 ≤ x2_18.toInt ∧ x2_18.toInt < x3_18.toInt) → ((ga σ 0 (0 : Int32)).toInt - x3_18.toInt).toNat < n → MH g σ s H locs → lv_has ls 4 [(0, .ref (g.2.1 99)), (1, .int p1), (2, .int x2_18), (3, .int x3_18)] → (∀ (x2_18' : Int32) (x3_18' : Int32) (H : Heap) (locs : List Loc) (ls : Array Slot), f_X6_easyOn_L18 σ p1 n x2_18 x3_18 = (x2_18', x3_18') → (0 ≤ x3_18'.toInt ∧ x3_18'.toInt ≤ (ga σ 0 (0 : Int32)).toInt ∧ -1 ≤ x2_18'.toInt ∧ x2_18'.toInt < x3_18'.toInt) → MH g σ s H locs → lv_has ls 4 [(0, .ref (g.2.1 99)), (2, .int x2_18')] → W p l e ({ frames := 3, cells := 0, slots := 0, locals := 63 } : Room) s m args below meth c H locs 0 0 (MQ below (mQi g (f_X6_easyOn σ p1).1 (f_X6_easyOn σ p1).2 (fun u r => ((ga u 0 (0 : Int32)).toInt = (ga σ 0 (0 : Int32)).toInt))) args s 0 0 (mA g)) (F0 m 87 ls [])) → W p l e ({ frames := 3, cells := 0, slots := 0, locals := 63 } : Room) s m args below meth c H locs 0 0 (MQ below (mQi g (f_X6_easyOn σ p1).1 (f_X6_easyOn σ p1).2 (fun u r => ((ga u 0 (0 : Int32)).toInt = (ga σ 0 (0 : Int32)).toInt))) args s 0 0 (mA g)) (F0 m 18 ls []) := by
      intro n
      induction n with
      | zero =>
        intro x2_18 x3_18 H locs ls _ hm; exact absurd hm (Nat.not_lt_zero _)
      | succ n ih =>
        intro x2_18 x3_18 H locs ls hI18 hm h hl kk
        refine lv_iload_n hx hb dX6_easyOn_18 rfl (lv_at hl 3 rfl) ?_
        refine lv_aload_n hx hb dX6_easyOn_19 rfl (lv_at hl 0 rfl) ?_
        refine Mg_0 C h dX6_easyOn_20 ?_
        refine lv_iconst (v := 0) hx hb dX6_easyOn_23 (by decide) ?_
        refine Ml_0 C h (ix_of zl0 (by omega)) dX6_easyOn_24 ?_
        refine lv_icmp_ge (tgt := 87) hx hb dX6_easyOn_25 (by decide) (fun c25 => ?_) (fun c25 => ?_)
        · have i25 := c_le c25
          exact kk x2_18 x3_18 _ _ _ (show f_X6_easyOn_L18 σ p1 (n + 1) x2_18 x3_18 = (x2_18, x3_18) from (by exact ((if_pos c25).trans rfl)))  (by first | assumption | omega) h (lv_sub hl [0, 2] rfl)
        · have i25 := c_nle c25
          refine lv_iload_n hx hb dX6_easyOn_28 rfl (lv_at hl 3 rfl) ?_
          refine lv_iload_n hx hb dX6_easyOn_29 rfl (lv_at hl 1 rfl) ?_
          refine lv_icmp_eq (tgt := 81) hx hb dX6_easyOn_30 (by decide) (fun c30 => ?_) (fun c30 => ?_)
          · have i30 := c_eq c30
            refine lv_iinc (v := (x3_18 + (1 : Int32))) (lv' := [(3, .int (x3_18 + (1 : Int32))), (0, .ref (g.2.1 99)), (1, .int p1), (2, .int x2_18)]) hx hb dX6_easyOn_81 hl (k := 3) rfl rfl (by decide) rfl (fun ls hl => ?_)
            refine lv_goto (tgt := 18) hx hb dX6_easyOn_84 (by decide) ?_
            have tt3 : (x3_18 + (1 : Int32)).toInt = (x3_18.toInt + (1)) := (i_add (rfl : x3_18.toInt = x3_18.toInt) zl1 (by omega))
            exact ih x2_18 (x3_18 + (1 : Int32)) _ _ _  (by first | assumption | omega) (by omega) h (lv_sub hl [1, 2, 3, 0] rfl) (fun x2_18' x3_18' H locs ls en hI h hl => kk x2_18' x3_18' H locs ls ((show f_X6_easyOn_L18 σ p1 (n + 1) x2_18 x3_18 = f_X6_easyOn_L18 σ p1 n x2_18 (x3_18 + (1 : Int32)) from (by exact ((if_neg c25).trans ((if_pos c30).trans rfl)))).trans en) hI h hl)
          · have i30 := c_ne c30
            refine lv_aload_n hx hb dX6_easyOn_33 rfl (lv_at hl 0 rfl) ?_
            refine lv_iload_n hx hb dX6_easyOn_34 rfl (lv_at hl 1 rfl) ?_
            refine lv_iload_n hx hb dX6_easyOn_35 rfl (lv_at hl 3 rfl) ?_
            refine M_callz (As := [.int p1, .int x3_18]) (rest := []) 2 C h (k_X6_isEndless l g σ p1 x3_18 (by first | assumption | omega) (by first | assumption | omega)) (lw_V q2002 q2004 qs114 q152 q2005) rfl rfl (by decide +kernel) ⟨Nat.le_of_ble_eq_true rfl, Nat.le_of_ble_eq_true rfl⟩ rfl hl.1 rfl (Nat.le_of_ble_eq_true rfl) ⟨Nat.le_of_ble_eq_true rfl, Nat.le_of_ble_eq_true rfl⟩ dX6_easyOn_36 (fun r36 σ36 H locs eσ36 er36 br36 hE36 h => ?_)
            rw [eσ36] at h
            clear hE36
            clear eσ36
            refine lv_if_eq (tgt := 45) hx hb dX6_easyOn_39 (by decide) (fun c39 => ?_) (fun c39 => ?_)
            · have i39 := c_eq c39
              refine lv_iload_n hx hb dX6_easyOn_45 rfl (lv_at hl 2 rfl) ?_
              refine lv_iconst (v := -1) hx hb dX6_easyOn_46 (by decide) ?_
              refine lv_icmp_eq (tgt := 79) hx hb dX6_easyOn_47 (by decide) (fun c47 => ?_) (fun c47 => ?_)
              · have i47 := c_eq c47
                refine lv_iload_n hx hb dX6_easyOn_79 rfl (lv_at hl 3 rfl) ?_
                refine lv_istore_n (lv' := [(2, .int x3_18), (0, .ref (g.2.1 99)), (1, .int p1), (3, .int x3_18)]) hx hb dX6_easyOn_80 rfl hl (by decide) rfl (fun ls hl => ?_)
                refine lv_iinc (v := (x3_18 + (1 : Int32))) (lv' := [(3, .int (x3_18 + (1 : Int32))), (2, .int x3_18), (0, .ref (g.2.1 99)), (1, .int p1)]) hx hb dX6_easyOn_81 hl (k := 3) rfl rfl (by decide) rfl (fun ls hl => ?_)
                refine lv_goto (tgt := 18) hx hb dX6_easyOn_84 (by decide) ?_
                have tt3 : (x3_18 + (1 : Int32)).toInt = (x3_18.toInt + (1)) := (i_add (rfl : x3_18.toInt = x3_18.toInt) zl1 (by omega))
                exact ih x3_18 (x3_18 + (1 : Int32)) _ _ _  (by first | assumption | omega) (by omega) h (lv_sub hl [2, 3, 1, 0] rfl) (fun x2_18' x3_18' H locs ls en hI h hl => kk x2_18' x3_18' H locs ls ((show f_X6_easyOn_L18 σ p1 (n + 1) x2_18 x3_18 = f_X6_easyOn_L18 σ p1 n x3_18 (x3_18 + (1 : Int32)) from (by have er36 := er36.symm; subst er36; exact ((if_neg c25).trans ((if_neg c30).trans ((if_pos c39).trans ((if_pos c47).trans rfl)))))).trans en) hI h hl)
              · have i47 := c_ne c47
                refine lv_aload_n hx hb dX6_easyOn_50 rfl (lv_at hl 0 rfl) ?_
                refine lv_iload_n hx hb dX6_easyOn_51 rfl (lv_at hl 1 rfl) ?_
                refine lv_iload_n hx hb dX6_easyOn_52 rfl (lv_at hl 3 rfl) ?_
                refine M_calli (As := [.int p1, .int x3_18]) (rest := []) 2 C h (k_X6_first l g σ p1 x3_18 (by first | assumption | omega) (by first | assumption | omega)) (lw_V q2010 q2012 qs116 q152 q2013) rfl rfl (by decide +kernel) ⟨Nat.le_of_ble_eq_true rfl, Nat.le_of_ble_eq_true rfl⟩ rfl hl.1 rfl (Nat.le_of_ble_eq_true rfl) ⟨Nat.le_of_ble_eq_true rfl, Nat.le_of_ble_eq_true rfl⟩ dX6_easyOn_53 (fun r53 σ53 H locs eσ53 er53 hE53 h => ?_)
                rw [eσ53] at h
                clear hE53
                clear eσ53
                refine lv_aload_n hx hb dX6_easyOn_56 rfl (lv_at hl 0 rfl) ?_
                refine lv_iload_n hx hb dX6_easyOn_57 rfl (lv_at hl 1 rfl) ?_
                refine lv_iload_n hx hb dX6_easyOn_58 rfl (lv_at hl 2 rfl) ?_
                refine M_calli (As := [.int p1, .int x2_18]) (rest := [.int r53]) 2 C h (k_X6_behind l g σ p1 x2_18 (by first | assumption | omega) (by first | assumption | omega)) (lw_V q2014 q2016 qs117 q152 q2017) rfl rfl (by decide +kernel) ⟨Nat.le_of_ble_eq_true rfl, Nat.le_of_ble_eq_true rfl⟩ rfl hl.1 rfl (Nat.le_of_ble_eq_true rfl) ⟨Nat.le_of_ble_eq_true rfl, Nat.le_of_ble_eq_true rfl⟩ dX6_easyOn_59 (fun r59 σ59 H locs eσ59 er59 hE59 h => ?_)
                rw [eσ59] at h
                clear hE59
                clear eσ59
                refine lv_imul hx hb dX6_easyOn_62 ?_
                refine lv_aload_n hx hb dX6_easyOn_63 rfl (lv_at hl 0 rfl) ?_
                refine lv_iload_n hx hb dX6_easyOn_64 rfl (lv_at hl 1 rfl) ?_
                refine lv_iload_n hx hb dX6_easyOn_65 rfl (lv_at hl 2 rfl) ?_
                refine M_calli (As := [.int p1, .int x2_18]) (rest := [.int (r53 * r59)]) 2 C h (k_X6_first l g σ p1 x2_18 (by first | assumption | omega) (by first | assumption | omega)) (lw_V q2010 q2012 qs116 q152 q2013) rfl rfl (by decide +kernel) ⟨Nat.le_of_ble_eq_true rfl, Nat.le_of_ble_eq_true rfl⟩ rfl hl.1 rfl (Nat.le_of_ble_eq_true rfl) ⟨Nat.le_of_ble_eq_true rfl, Nat.le_of_ble_eq_true rfl⟩ dX6_easyOn_66 (fun r66 σ66 H locs eσ66 er66 hE66 h => ?_)
                rw [eσ66] at h
                clear hE66
                clear eσ66
                refine lv_aload_n hx hb dX6_easyOn_69 rfl (lv_at hl 0 rfl) ?_
                refine lv_iload_n hx hb dX6_easyOn_70 rfl (lv_at hl 1 rfl) ?_
                refine lv_iload_n hx hb dX6_easyOn_71 rfl (lv_at hl 3 rfl) ?_
                refine M_calli (As := [.int p1, .int x3_18]) (rest := [.int r66, .int (r53 * r59)]) 2 C h (k_X6_behind l g σ p1 x3_18 (by first | assumption | omega) (by first | assumption | omega)) (lw_V q2014 q2016 qs117 q152 q2017) rfl rfl (by decide +kernel) ⟨Nat.le_of_ble_eq_true rfl, Nat.le_of_ble_eq_true rfl⟩ rfl hl.1 rfl (Nat.le_of_ble_eq_true rfl) ⟨Nat.le_of_ble_eq_true rfl, Nat.le_of_ble_eq_true rfl⟩ dX6_easyOn_72 (fun r72 σ72 H locs eσ72 er72 hE72 h => ?_)
                rw [eσ72] at h
                clear hE72
                clear eσ72
                refine lv_imul hx hb dX6_easyOn_75 ?_
                refine lv_icmp_ge (tgt := 81) hx hb dX6_easyOn_76 (by decide) (fun c76 => ?_) (fun c76 => ?_)
                · have i76 := c_le c76
                  refine lv_iinc (v := (x3_18 + (1 : Int32))) (lv' := [(3, .int (x3_18 + (1 : Int32))), (0, .ref (g.2.1 99)), (1, .int p1), (2, .int x2_18)]) hx hb dX6_easyOn_81 hl (k := 3) rfl rfl (by decide) rfl (fun ls hl => ?_)
                  refine lv_goto (tgt := 18) hx hb dX6_easyOn_84 (by decide) ?_
                  have tt3 : (x3_18 + (1 : Int32)).toInt = (x3_18.toInt + (1)) := (i_add (rfl : x3_18.toInt = x3_18.toInt) zl1 (by omega))
                  exact ih x2_18 (x3_18 + (1 : Int32)) _ _ _  (by first | assumption | omega) (by omega) h (lv_sub hl [1, 2, 3, 0] rfl) (fun x2_18' x3_18' H locs ls en hI h hl => kk x2_18' x3_18' H locs ls ((show f_X6_easyOn_L18 σ p1 (n + 1) x2_18 x3_18 = f_X6_easyOn_L18 σ p1 n x2_18 (x3_18 + (1 : Int32)) from (by have er36 := er36.symm; subst er36; have er53 := er53.symm; subst er53; have er59 := er59.symm; subst er59; have er66 := er66.symm; subst er66; have er72 := er72.symm; subst er72; exact ((if_neg c25).trans ((if_neg c30).trans ((if_pos c39).trans ((if_neg c47).trans ((if_pos c76).trans rfl))))))).trans en) hI h hl)
                · have i76 := c_nle c76
                  refine lv_iload_n hx hb dX6_easyOn_79 rfl (lv_at hl 3 rfl) ?_
                  refine lv_istore_n (lv' := [(2, .int x3_18), (0, .ref (g.2.1 99)), (1, .int p1), (3, .int x3_18)]) hx hb dX6_easyOn_80 rfl hl (by decide) rfl (fun ls hl => ?_)
                  refine lv_iinc (v := (x3_18 + (1 : Int32))) (lv' := [(3, .int (x3_18 + (1 : Int32))), (2, .int x3_18), (0, .ref (g.2.1 99)), (1, .int p1)]) hx hb dX6_easyOn_81 hl (k := 3) rfl rfl (by decide) rfl (fun ls hl => ?_)
                  refine lv_goto (tgt := 18) hx hb dX6_easyOn_84 (by decide) ?_
                  have tt3 : (x3_18 + (1 : Int32)).toInt = (x3_18.toInt + (1)) := (i_add (rfl : x3_18.toInt = x3_18.toInt) zl1 (by omega))
                  exact ih x3_18 (x3_18 + (1 : Int32)) _ _ _  (by first | assumption | omega) (by omega) h (lv_sub hl [2, 3, 1, 0] rfl) (fun x2_18' x3_18' H locs ls en hI h hl => kk x2_18' x3_18' H locs ls ((show f_X6_easyOn_L18 σ p1 (n + 1) x2_18 x3_18 = f_X6_easyOn_L18 σ p1 n x3_18 (x3_18 + (1 : Int32)) from (by have er36 := er36.symm; subst er36; have er53 := er53.symm; subst er53; have er59 := er59.symm; subst er59; have er66 := er66.symm; subst er66; have er72 := er72.symm; subst er72; exact ((if_neg c25).trans ((if_neg c30).trans ((if_pos c39).trans ((if_neg c47).trans ((if_neg c76).trans rfl))))))).trans en) hI h hl)
            · have i39 := c_ne c39
              refine lv_goto (tgt := 81) hx hb dX6_easyOn_42 (by decide) ?_
              refine lv_iinc (v := (x3_18 + (1 : Int32))) (lv' := [(3, .int (x3_18 + (1 : Int32))), (0, .ref (g.2.1 99)), (1, .int p1), (2, .int x2_18)]) hx hb dX6_easyOn_81 hl (k := 3) rfl rfl (by decide) rfl (fun ls hl => ?_)
              refine lv_goto (tgt := 18) hx hb dX6_easyOn_84 (by decide) ?_
              have tt3 : (x3_18 + (1 : Int32)).toInt = (x3_18.toInt + (1)) := (i_add (rfl : x3_18.toInt = x3_18.toInt) zl1 (by omega))
              exact ih x2_18 (x3_18 + (1 : Int32)) _ _ _  (by first | assumption | omega) (by omega) h (lv_sub hl [1, 2, 3, 0] rfl) (fun x2_18' x3_18' H locs ls en hI h hl => kk x2_18' x3_18' H locs ls ((show f_X6_easyOn_L18 σ p1 (n + 1) x2_18 x3_18 = f_X6_easyOn_L18 σ p1 n x2_18 (x3_18 + (1 : Int32)) from (by have er36 := er36.symm; subst er36; exact ((if_neg c25).trans ((if_neg c30).trans ((if_neg c39).trans rfl))))).trans en) hI h hl)
    refine hL18 (7) (-1 : Int32) (0 : Int32) _ _ _  (by first | assumption | omega) (by omega) h (lv_sub hl [2, 3, 1, 0] rfl) (fun x2_18e x3_18e H locs ls eL18 hI18 h hl => ?_)
    have ex2_18e : x2_18e = (f_X6_easyOn_L18 σ p1 (7) (-1 : Int32) (0 : Int32)).1 := by rw [eL18]
    have ex3_18e : x3_18e = (f_X6_easyOn_L18 σ p1 (7) (-1 : Int32) (0 : Int32)).2 := by rw [eL18]
    refine lv_aload_n hx hb dX6_easyOn_87 rfl (lv_at hl 0 rfl) ?_
    refine lv_iload_n hx hb dX6_easyOn_88 rfl (lv_at hl 1 rfl) ?_
    refine M_calli (As := [.int x2_18e]) (rest := []) 1 C h (k_X6_orNone l g σ x2_18e) (lw_V q1868 q1870 qs102 q152 q1871) rfl rfl (by decide +kernel) ⟨Nat.le_of_ble_eq_true rfl, Nat.le_of_ble_eq_true rfl⟩ rfl hl.1 rfl (Nat.le_of_ble_eq_true rfl) ⟨Nat.le_of_ble_eq_true rfl, Nat.le_of_ble_eq_true rfl⟩ dX6_easyOn_89 (fun r89 σ89 H locs eσ89 er89 hE89 h => ?_)
    clear hE89
    have hNEW : (0 ≤ (ga σ89 0 (0 : Int32)).toInt ∧ (ga σ89 0 (0 : Int32)).toInt ≤ 6) ∧ ((ga σ89 0 (0 : Int32)).toInt = (ga σ 0 (0 : Int32)).toInt) := ⟨(by rw [eσ89, orNone_s] <;> exact hp), (by rw [eσ89, orNone_s] <;> exact hpq)⟩
    obtain ⟨hp, hpq⟩ := hNEW
    have he : f_X6_easyOn σ p1 = (σ89, r89) := (by have er2 := er2.symm; subst er2; have ex2_18e := ex2_18e.symm; subst ex2_18e; have ex3_18e := ex3_18e.symm; subst ex3_18e; have eσ89 := eσ89.symm; subst eσ89; have er89 := er89.symm; subst er89; exact ((if_neg c5).trans rfl))
    exact M_reti C h hr hlocks (congrArg Prod.fst he) (congrArg Prod.snd he) hpq dX6_easyOn_92
  · have i5 := c_eq c5
    refine lv_aload_n hx hb dX6_easyOn_8 rfl (lv_at hl 0 rfl) ?_
    refine lv_iconst (v := 1) hx hb dX6_easyOn_9 (by decide) ?_
    refine M_calli (As := [.int (1 : Int32)]) (rest := []) 1 C h (k_X6_refuse l g σ (1 : Int32)) (lw_V q1723 q1725 qs71 q152 q1726) rfl rfl (by decide +kernel) ⟨Nat.le_of_ble_eq_true rfl, Nat.le_of_ble_eq_true rfl⟩ rfl hl.1 rfl (Nat.le_of_ble_eq_true rfl) ⟨Nat.le_of_ble_eq_true rfl, Nat.le_of_ble_eq_true rfl⟩ dX6_easyOn_10 (fun r10 σ10 H locs eσ10 er10 hE10 h => ?_)
    clear hE10
    have hNEW : (0 ≤ (ga σ10 0 (0 : Int32)).toInt ∧ (ga σ10 0 (0 : Int32)).toInt ≤ 6) ∧ ((ga σ10 0 (0 : Int32)).toInt = (ga σ 0 (0 : Int32)).toInt) := ⟨(by rw [eσ10, refuse_s] <;> exact hp), (by rw [eσ10, refuse_s] <;> exact hpq)⟩
    obtain ⟨hp, hpq⟩ := hNEW
    have he : f_X6_easyOn σ p1 = (σ10, r10) := (by have er2 := er2.symm; subst er2; have eσ10 := eσ10.symm; subst eσ10; have er10 := er10.symm; subst er10; exact ((if_pos c5).trans rfl))
    exact M_reti C h hr hlocks (congrArg Prod.fst he) (congrArg Prod.snd he) hpq dX6_easyOn_13
def f_X6_trio (σ : MS) (p1 : Int32) (p2 : Int32) (p3 : Int32) (p4 : Int32) : MS × Int32 := (let r3 := (f_X6_areTwo σ p1 p2); if r3 = (0 : Int32) then ((let z40 := (f_X6_is σ (1 : Int32)); let σ40 := z40.1; let r40 := z40.2; (σ40, r40))) else ((let r12 := (f_X6_areTwo σ p1 p3); if r12 = (0 : Int32) then ((let z40 := (f_X6_is σ (1 : Int32)); let σ40 := z40.1; let r40 := z40.2; (σ40, r40))) else ((let r21 := (f_X6_areTwo σ p2 p3); if r21 = (0 : Int32) then ((let z40 := (f_X6_is σ (1 : Int32)); let σ40 := z40.1; let r40 := z40.2; (σ40, r40))) else (if p4 < (0 : Int32) then ((let z40 := (f_X6_is σ (1 : Int32)); let σ40 := z40.1; let r40 := z40.2; (σ40, r40))) else (if p4 ≤ (2 : Int32) then ((let r47 := (f_X6_isEndless σ p1 p2); if r47 = (0 : Int32) then ((let r56 := (f_X6_isEndless σ p1 p3); if r56 = (0 : Int32) then ((let r65 := (f_X6_isEndless σ p2 p3); if r65 = (0 : Int32) then ((let r82 := (f_X6_insists σ p1); let v90 := (((16 : Int32) - r82) * (256 : Int32)); let r94 := (f_X6_insists σ p1); let r101 := (f_X6_insists σ p2); let v109 := ((r94 * ((16 : Int32) - r101)) * (16 : Int32)); let r113 := (f_X6_insists σ p1); let r118 := (f_X6_insists σ p2); let r126 := (f_X6_insists σ p3); let v131 := ((r113 * r118) * ((16 : Int32) - r126)); let r138 := (f_X6_insists σ p1); let r143 := (f_X6_insists σ p2); let r149 := (f_X6_insists σ p3); let v155 := ((4096 : Int64) - ((r138 * r143) * r149).toInt64); (let z219_ : Int64 := (if p4 = (0 : Int32) then ((0 : Int64)) else ((let z198_ : Int32 := (if p4 = (1 : Int32) then ((let r179 := (f_X6_first σ p2 p3); r179)) else ((let r188 := (f_X6_behind σ p2 p3); let r194 := (f_X6_first σ p2 p3); (r188 - r194)))); let t0_198 := z198_; (let r203 := (f_X6_behind σ p3 p1); let r211 := (f_X6_behind σ p1 p2); let v217 := ((0 : Int64) + (((v90.toInt64 * t0_198.toInt64) * r203.toInt64) * r211.toInt64)); v217)))); let x10_219 := z219_; (let z279_ : Int64 := (if p4 = (1 : Int32) then (x10_219) else ((let z258_ : Int32 := (if p4 = (2 : Int32) then ((let r239 := (f_X6_first σ p3 p1); r239)) else ((let r248 := (f_X6_behind σ p3 p1); let r254 := (f_X6_first σ p3 p1); (r248 - r254)))); let t0_258 := z258_; (let r263 := (f_X6_behind σ p2 p3); let r271 := (f_X6_behind σ p1 p2); let v277 := (x10_219 + (((v109.toInt64 * t0_258.toInt64) * r263.toInt64) * r271.toInt64)); v277)))); let x10_279 := z279_; (let z338_ : Int64 := (if p4 = (2 : Int32) then (x10_279) else ((let z317_ : Int32 := (if p4 = (0 : Int32) then ((let r298 := (f_X6_first σ p1 p2); r298)) else ((let r307 := (f_X6_behind σ p1 p2); let r313 := (f_X6_first σ p1 p2); (r307 - r313)))); let t0_317 := z317_; (let r322 := (f_X6_behind σ p2 p3); let r330 := (f_X6_behind σ p3 p1); let v336 := (x10_279 + (((v131.toInt64 * t0_317.toInt64) * r322.toInt64) * r330.toInt64)); v336)))); let x10_338 := z338_; (let r346 := (f_X6_behind σ p1 p2); let r354 := (f_X6_behind σ p2 p3); let r362 := (f_X6_behind σ p3 p1); let z367 := (f_X6_tellsBy σ x10_338 (((v155 * r346.toInt64) * r354.toInt64) * r362.toInt64)); let σ367 := z367.1; let r367 := z367.2; (σ367, r367))))))) else ((let z74 := (f_X6_is σ (6 : Int32)); let σ74 := z74.1; let r74 := z74.2; (σ74, r74))))) else ((let z74 := (f_X6_is σ (6 : Int32)); let σ74 := z74.1; let r74 := z74.2; (σ74, r74))))) else ((let z74 := (f_X6_is σ (6 : Int32)); let σ74 := z74.1; let r74 := z74.2; (σ74, r74))))) else ((let z40 := (f_X6_is σ (1 : Int32)); let σ40 := z40.1; let r40 := z40.2; (σ40, r40))))))))))
set_option maxHeartbeats 4000000 in
set_option maxRecDepth 100000 in
theorem k_X6_trio (l : Launch) (g : GE) (σ : MS) (p1 : Int32) (p2 : Int32) (p3 : Int32) (p4 : Int32) (hp : 0 ≤ (ga σ 0 (0 : Int32)).toInt ∧ (ga σ 0 (0 : Int32)).toInt ≤ 6) (hIn : ∀ x : Int32, (0 ≤ x.toInt ∧ x.toInt ≤ 5) → 0 ≤ (f_X6_insists σ x).toInt ∧ (f_X6_insists σ x).toInt ≤ 16) : Met l yX6_trio (ws_ yX6_trio cX6_trio 12 (some .boolean)) ({ frames := 3, cells := 0, slots := 0, locals := 63 } : Room) (mPc g σ [.int p1, .int p2, .int p3, .int p4]) (mQz g (f_X6_trio σ p1 p2 p3 p4).1 (f_X6_trio σ p1 p2 p3 p4).2 (fun u r => ((ga u 0 (0 : Int32)).toInt = (ga σ 0 (0 : Int32)).toInt))) 0 0 (mA g) := by
  refine met_M (by decide) rfl (Nat.le_of_ble_eq_true rfl) ?_
  intro p e s m args below meth c C hr hlocks h ls hl
  have hx := C.1.1
  have hb := C.1.2.1
  have hml := C.1.2.2.1
  have hown := C.1.2.2.2.1
  have hts := C.1.2.2.2.2
  have hl : lv_has ls 12 [(0, .ref (g.2.1 99)), (1, .int p1), (2, .int p2), (3, .int p3), (4, .int p4)] := hl
  have hpq : (ga σ 0 (0 : Int32)).toInt = (ga σ 0 (0 : Int32)).toInt := rfl
  have zl0 : (0 : Int32).toInt = 0 := rfl
  have zl1 : (1 : Int32).toInt = 1 := rfl
  have zl2 : (2 : Int32).toInt = 2 := rfl
  have zl6 : (6 : Int32).toInt = 6 := rfl
  have zl16 : (16 : Int32).toInt = 16 := rfl
  have zl256 : (256 : Int32).toInt = 256 := rfl
  refine lv_aload_n hx hb dX6_trio_0 rfl (lv_at hl 0 rfl) ?_
  refine lv_iload_n hx hb dX6_trio_1 rfl (lv_at hl 1 rfl) ?_
  refine lv_iload_n hx hb dX6_trio_2 rfl (lv_at hl 2 rfl) ?_
  refine M_callz (As := [.int p1, .int p2]) (rest := []) 2 C h (k_X6_areTwo l g σ p1 p2) (lw_V q1998 q2000 qs113 q152 q2001) rfl rfl (by decide +kernel) ⟨Nat.le_of_ble_eq_true rfl, Nat.le_of_ble_eq_true rfl⟩ rfl hl.1 rfl (Nat.le_of_ble_eq_true rfl) ⟨Nat.le_of_ble_eq_true rfl, Nat.le_of_ble_eq_true rfl⟩ dX6_trio_3 (fun r3 σ3 H locs eσ3 er3 br3 hE3 h => ?_)
  rw [eσ3] at h
  clear hE3
  clear eσ3
  refine lv_if_eq (tgt := 38) hx hb dX6_trio_6 (by decide) (fun c6 => ?_) (fun c6 => ?_)
  · have i6 := c_eq c6
    refine lv_aload_n hx hb dX6_trio_38 rfl (lv_at hl 0 rfl) ?_
    refine lv_iconst (v := 1) hx hb dX6_trio_39 (by decide) ?_
    refine M_callz (As := [.int (1 : Int32)]) (rest := []) 1 C h (k_X6_is l g σ (1 : Int32)) (lw_V q1663 q1665 qs65 q152 q1666) rfl rfl (by decide +kernel) ⟨Nat.le_of_ble_eq_true rfl, Nat.le_of_ble_eq_true rfl⟩ rfl hl.1 rfl (Nat.le_of_ble_eq_true rfl) ⟨Nat.le_of_ble_eq_true rfl, Nat.le_of_ble_eq_true rfl⟩ dX6_trio_40 (fun r40 σ40 H locs eσ40 er40 br40 hE40 h => ?_)
    clear hE40
    have hNEW : (0 ≤ (ga σ40 0 (0 : Int32)).toInt ∧ (ga σ40 0 (0 : Int32)).toInt ≤ 6) ∧ (∀ x : Int32, (0 ≤ x.toInt ∧ x.toInt ≤ 5) → 0 ≤ (f_X6_insists σ40 x).toInt ∧ (f_X6_insists σ40 x).toInt ≤ 16) ∧ ((ga σ40 0 (0 : Int32)).toInt = (ga σ 0 (0 : Int32)).toInt) := ⟨(by rw [eσ40, is_s] <;> exact hp), (by rw [eσ40, is_s] <;> exact hIn), (by rw [eσ40, is_s] <;> exact hpq)⟩
    obtain ⟨hp, hIn, hpq⟩ := hNEW
    have he : f_X6_trio σ p1 p2 p3 p4 = (σ40, r40) := (by have er3 := er3.symm; subst er3; have eσ40 := eσ40.symm; subst eσ40; have er40 := er40.symm; subst er40; exact ((if_pos c6).trans rfl))
    exact M_retz C h hr hlocks (congrArg Prod.fst he) (congrArg Prod.snd he) br40 hpq dX6_trio_43
  · have i6 := c_ne c6
    have okr3 := areTwo_ok er3 c6
    refine lv_aload_n hx hb dX6_trio_9 rfl (lv_at hl 0 rfl) ?_
    refine lv_iload_n hx hb dX6_trio_10 rfl (lv_at hl 1 rfl) ?_
    refine lv_iload_n hx hb dX6_trio_11 rfl (lv_at hl 3 rfl) ?_
    refine M_callz (As := [.int p1, .int p3]) (rest := []) 2 C h (k_X6_areTwo l g σ p1 p3) (lw_V q1998 q2000 qs113 q152 q2001) rfl rfl (by decide +kernel) ⟨Nat.le_of_ble_eq_true rfl, Nat.le_of_ble_eq_true rfl⟩ rfl hl.1 rfl (Nat.le_of_ble_eq_true rfl) ⟨Nat.le_of_ble_eq_true rfl, Nat.le_of_ble_eq_true rfl⟩ dX6_trio_12 (fun r12 σ12 H locs eσ12 er12 br12 hE12 h => ?_)
    rw [eσ12] at h
    clear hE12
    clear eσ12
    refine lv_if_eq (tgt := 38) hx hb dX6_trio_15 (by decide) (fun c15 => ?_) (fun c15 => ?_)
    · have i15 := c_eq c15
      refine lv_aload_n hx hb dX6_trio_38 rfl (lv_at hl 0 rfl) ?_
      refine lv_iconst (v := 1) hx hb dX6_trio_39 (by decide) ?_
      refine M_callz (As := [.int (1 : Int32)]) (rest := []) 1 C h (k_X6_is l g σ (1 : Int32)) (lw_V q1663 q1665 qs65 q152 q1666) rfl rfl (by decide +kernel) ⟨Nat.le_of_ble_eq_true rfl, Nat.le_of_ble_eq_true rfl⟩ rfl hl.1 rfl (Nat.le_of_ble_eq_true rfl) ⟨Nat.le_of_ble_eq_true rfl, Nat.le_of_ble_eq_true rfl⟩ dX6_trio_40 (fun r40 σ40 H locs eσ40 er40 br40 hE40 h => ?_)
      clear hE40
      have hNEW : (0 ≤ (ga σ40 0 (0 : Int32)).toInt ∧ (ga σ40 0 (0 : Int32)).toInt ≤ 6) ∧ (∀ x : Int32, (0 ≤ x.toInt ∧ x.toInt ≤ 5) → 0 ≤ (f_X6_insists σ40 x).toInt ∧ (f_X6_insists σ40 x).toInt ≤ 16) ∧ ((ga σ40 0 (0 : Int32)).toInt = (ga σ 0 (0 : Int32)).toInt) := ⟨(by rw [eσ40, is_s] <;> exact hp), (by rw [eσ40, is_s] <;> exact hIn), (by rw [eσ40, is_s] <;> exact hpq)⟩
      obtain ⟨hp, hIn, hpq⟩ := hNEW
      have he : f_X6_trio σ p1 p2 p3 p4 = (σ40, r40) := (by have er3 := er3.symm; subst er3; have er12 := er12.symm; subst er12; have eσ40 := eσ40.symm; subst eσ40; have er40 := er40.symm; subst er40; exact ((if_neg c6).trans ((if_pos c15).trans rfl)))
      exact M_retz C h hr hlocks (congrArg Prod.fst he) (congrArg Prod.snd he) br40 hpq dX6_trio_43
    · have i15 := c_ne c15
      have okr12 := areTwo_ok er12 c15
      refine lv_aload_n hx hb dX6_trio_18 rfl (lv_at hl 0 rfl) ?_
      refine lv_iload_n hx hb dX6_trio_19 rfl (lv_at hl 2 rfl) ?_
      refine lv_iload_n hx hb dX6_trio_20 rfl (lv_at hl 3 rfl) ?_
      refine M_callz (As := [.int p2, .int p3]) (rest := []) 2 C h (k_X6_areTwo l g σ p2 p3) (lw_V q1998 q2000 qs113 q152 q2001) rfl rfl (by decide +kernel) ⟨Nat.le_of_ble_eq_true rfl, Nat.le_of_ble_eq_true rfl⟩ rfl hl.1 rfl (Nat.le_of_ble_eq_true rfl) ⟨Nat.le_of_ble_eq_true rfl, Nat.le_of_ble_eq_true rfl⟩ dX6_trio_21 (fun r21 σ21 H locs eσ21 er21 br21 hE21 h => ?_)
      rw [eσ21] at h
      clear hE21
      clear eσ21
      refine lv_if_eq (tgt := 38) hx hb dX6_trio_24 (by decide) (fun c24 => ?_) (fun c24 => ?_)
      · have i24 := c_eq c24
        refine lv_aload_n hx hb dX6_trio_38 rfl (lv_at hl 0 rfl) ?_
        refine lv_iconst (v := 1) hx hb dX6_trio_39 (by decide) ?_
        refine M_callz (As := [.int (1 : Int32)]) (rest := []) 1 C h (k_X6_is l g σ (1 : Int32)) (lw_V q1663 q1665 qs65 q152 q1666) rfl rfl (by decide +kernel) ⟨Nat.le_of_ble_eq_true rfl, Nat.le_of_ble_eq_true rfl⟩ rfl hl.1 rfl (Nat.le_of_ble_eq_true rfl) ⟨Nat.le_of_ble_eq_true rfl, Nat.le_of_ble_eq_true rfl⟩ dX6_trio_40 (fun r40 σ40 H locs eσ40 er40 br40 hE40 h => ?_)
        clear hE40
        have hNEW : (0 ≤ (ga σ40 0 (0 : Int32)).toInt ∧ (ga σ40 0 (0 : Int32)).toInt ≤ 6) ∧ (∀ x : Int32, (0 ≤ x.toInt ∧ x.toInt ≤ 5) → 0 ≤ (f_X6_insists σ40 x).toInt ∧ (f_X6_insists σ40 x).toInt ≤ 16) ∧ ((ga σ40 0 (0 : Int32)).toInt = (ga σ 0 (0 : Int32)).toInt) := ⟨(by rw [eσ40, is_s] <;> exact hp), (by rw [eσ40, is_s] <;> exact hIn), (by rw [eσ40, is_s] <;> exact hpq)⟩
        obtain ⟨hp, hIn, hpq⟩ := hNEW
        have he : f_X6_trio σ p1 p2 p3 p4 = (σ40, r40) := (by have er3 := er3.symm; subst er3; have er12 := er12.symm; subst er12; have er21 := er21.symm; subst er21; have eσ40 := eσ40.symm; subst eσ40; have er40 := er40.symm; subst er40; exact ((if_neg c6).trans ((if_neg c15).trans ((if_pos c24).trans rfl))))
        exact M_retz C h hr hlocks (congrArg Prod.fst he) (congrArg Prod.snd he) br40 hpq dX6_trio_43
      · have i24 := c_ne c24
        have okr21 := areTwo_ok er21 c24
        refine lv_iload hx hb dX6_trio_27 (lv_at hl 4 rfl) ?_
        refine lv_if_lt (tgt := 38) hx hb dX6_trio_29 (by decide) (fun c29 => ?_) (fun c29 => ?_)
        · have i29 := c_lt c29
          refine lv_aload_n hx hb dX6_trio_38 rfl (lv_at hl 0 rfl) ?_
          refine lv_iconst (v := 1) hx hb dX6_trio_39 (by decide) ?_
          refine M_callz (As := [.int (1 : Int32)]) (rest := []) 1 C h (k_X6_is l g σ (1 : Int32)) (lw_V q1663 q1665 qs65 q152 q1666) rfl rfl (by decide +kernel) ⟨Nat.le_of_ble_eq_true rfl, Nat.le_of_ble_eq_true rfl⟩ rfl hl.1 rfl (Nat.le_of_ble_eq_true rfl) ⟨Nat.le_of_ble_eq_true rfl, Nat.le_of_ble_eq_true rfl⟩ dX6_trio_40 (fun r40 σ40 H locs eσ40 er40 br40 hE40 h => ?_)
          clear hE40
          have hNEW : (0 ≤ (ga σ40 0 (0 : Int32)).toInt ∧ (ga σ40 0 (0 : Int32)).toInt ≤ 6) ∧ (∀ x : Int32, (0 ≤ x.toInt ∧ x.toInt ≤ 5) → 0 ≤ (f_X6_insists σ40 x).toInt ∧ (f_X6_insists σ40 x).toInt ≤ 16) ∧ ((ga σ40 0 (0 : Int32)).toInt = (ga σ 0 (0 : Int32)).toInt) := ⟨(by rw [eσ40, is_s] <;> exact hp), (by rw [eσ40, is_s] <;> exact hIn), (by rw [eσ40, is_s] <;> exact hpq)⟩
          obtain ⟨hp, hIn, hpq⟩ := hNEW
          have he : f_X6_trio σ p1 p2 p3 p4 = (σ40, r40) := (by have er3 := er3.symm; subst er3; have er12 := er12.symm; subst er12; have er21 := er21.symm; subst er21; have eσ40 := eσ40.symm; subst eσ40; have er40 := er40.symm; subst er40; exact ((if_neg c6).trans ((if_neg c15).trans ((if_neg c24).trans ((if_pos c29).trans rfl)))))
          exact M_retz C h hr hlocks (congrArg Prod.fst he) (congrArg Prod.snd he) br40 hpq dX6_trio_43
        · have i29 := c_nlt c29
          refine lv_iload hx hb dX6_trio_32 (lv_at hl 4 rfl) ?_
          refine lv_iconst (v := 2) hx hb dX6_trio_34 (by decide) ?_
          refine lv_icmp_le (tgt := 44) hx hb dX6_trio_35 (by decide) (fun c35 => ?_) (fun c35 => ?_)
          · have i35 := c_le c35
            refine lv_aload_n hx hb dX6_trio_44 rfl (lv_at hl 0 rfl) ?_
            refine lv_iload_n hx hb dX6_trio_45 rfl (lv_at hl 1 rfl) ?_
            refine lv_iload_n hx hb dX6_trio_46 rfl (lv_at hl 2 rfl) ?_
            refine M_callz (As := [.int p1, .int p2]) (rest := []) 2 C h (k_X6_isEndless l g σ p1 p2 (by first | assumption | omega) (by first | assumption | omega)) (lw_V q2002 q2004 qs114 q152 q2005) rfl rfl (by decide +kernel) ⟨Nat.le_of_ble_eq_true rfl, Nat.le_of_ble_eq_true rfl⟩ rfl hl.1 rfl (Nat.le_of_ble_eq_true rfl) ⟨Nat.le_of_ble_eq_true rfl, Nat.le_of_ble_eq_true rfl⟩ dX6_trio_47 (fun r47 σ47 H locs eσ47 er47 br47 hE47 h => ?_)
            rw [eσ47] at h
            clear hE47
            clear eσ47
            refine lv_if_ne (tgt := 71) hx hb dX6_trio_50 (by decide) (fun c50 => ?_) (fun c50 => ?_)
            · have i50 := c_ne c50
              refine lv_aload_n hx hb dX6_trio_71 rfl (lv_at hl 0 rfl) ?_
              refine lv_bipush (v := 6) hx hb dX6_trio_72 (by decide) ?_
              refine M_callz (As := [.int (6 : Int32)]) (rest := []) 1 C h (k_X6_is l g σ (6 : Int32)) (lw_V q1663 q1665 qs65 q152 q1666) rfl rfl (by decide +kernel) ⟨Nat.le_of_ble_eq_true rfl, Nat.le_of_ble_eq_true rfl⟩ rfl hl.1 rfl (Nat.le_of_ble_eq_true rfl) ⟨Nat.le_of_ble_eq_true rfl, Nat.le_of_ble_eq_true rfl⟩ dX6_trio_74 (fun r74 σ74 H locs eσ74 er74 br74 hE74 h => ?_)
              clear hE74
              have hNEW : (0 ≤ (ga σ74 0 (0 : Int32)).toInt ∧ (ga σ74 0 (0 : Int32)).toInt ≤ 6) ∧ (∀ x : Int32, (0 ≤ x.toInt ∧ x.toInt ≤ 5) → 0 ≤ (f_X6_insists σ74 x).toInt ∧ (f_X6_insists σ74 x).toInt ≤ 16) ∧ ((ga σ74 0 (0 : Int32)).toInt = (ga σ 0 (0 : Int32)).toInt) := ⟨(by rw [eσ74, is_s] <;> exact hp), (by rw [eσ74, is_s] <;> exact hIn), (by rw [eσ74, is_s] <;> exact hpq)⟩
              obtain ⟨hp, hIn, hpq⟩ := hNEW
              have he : f_X6_trio σ p1 p2 p3 p4 = (σ74, r74) := (by have er3 := er3.symm; subst er3; have er12 := er12.symm; subst er12; have er21 := er21.symm; subst er21; have er47 := er47.symm; subst er47; have eσ74 := eσ74.symm; subst eσ74; have er74 := er74.symm; subst er74; exact ((if_neg c6).trans ((if_neg c15).trans ((if_neg c24).trans ((if_neg c29).trans ((if_pos c35).trans ((if_neg c50).trans rfl)))))))
              exact M_retz C h hr hlocks (congrArg Prod.fst he) (congrArg Prod.snd he) br74 hpq dX6_trio_77
            · have i50 := c_eq c50
              refine lv_aload_n hx hb dX6_trio_53 rfl (lv_at hl 0 rfl) ?_
              refine lv_iload_n hx hb dX6_trio_54 rfl (lv_at hl 1 rfl) ?_
              refine lv_iload_n hx hb dX6_trio_55 rfl (lv_at hl 3 rfl) ?_
              refine M_callz (As := [.int p1, .int p3]) (rest := []) 2 C h (k_X6_isEndless l g σ p1 p3 (by first | assumption | omega) (by first | assumption | omega)) (lw_V q2002 q2004 qs114 q152 q2005) rfl rfl (by decide +kernel) ⟨Nat.le_of_ble_eq_true rfl, Nat.le_of_ble_eq_true rfl⟩ rfl hl.1 rfl (Nat.le_of_ble_eq_true rfl) ⟨Nat.le_of_ble_eq_true rfl, Nat.le_of_ble_eq_true rfl⟩ dX6_trio_56 (fun r56 σ56 H locs eσ56 er56 br56 hE56 h => ?_)
              rw [eσ56] at h
              clear hE56
              clear eσ56
              refine lv_if_ne (tgt := 71) hx hb dX6_trio_59 (by decide) (fun c59 => ?_) (fun c59 => ?_)
              · have i59 := c_ne c59
                refine lv_aload_n hx hb dX6_trio_71 rfl (lv_at hl 0 rfl) ?_
                refine lv_bipush (v := 6) hx hb dX6_trio_72 (by decide) ?_
                refine M_callz (As := [.int (6 : Int32)]) (rest := []) 1 C h (k_X6_is l g σ (6 : Int32)) (lw_V q1663 q1665 qs65 q152 q1666) rfl rfl (by decide +kernel) ⟨Nat.le_of_ble_eq_true rfl, Nat.le_of_ble_eq_true rfl⟩ rfl hl.1 rfl (Nat.le_of_ble_eq_true rfl) ⟨Nat.le_of_ble_eq_true rfl, Nat.le_of_ble_eq_true rfl⟩ dX6_trio_74 (fun r74 σ74 H locs eσ74 er74 br74 hE74 h => ?_)
                clear hE74
                have hNEW : (0 ≤ (ga σ74 0 (0 : Int32)).toInt ∧ (ga σ74 0 (0 : Int32)).toInt ≤ 6) ∧ (∀ x : Int32, (0 ≤ x.toInt ∧ x.toInt ≤ 5) → 0 ≤ (f_X6_insists σ74 x).toInt ∧ (f_X6_insists σ74 x).toInt ≤ 16) ∧ ((ga σ74 0 (0 : Int32)).toInt = (ga σ 0 (0 : Int32)).toInt) := ⟨(by rw [eσ74, is_s] <;> exact hp), (by rw [eσ74, is_s] <;> exact hIn), (by rw [eσ74, is_s] <;> exact hpq)⟩
                obtain ⟨hp, hIn, hpq⟩ := hNEW
                have he : f_X6_trio σ p1 p2 p3 p4 = (σ74, r74) := (by have er3 := er3.symm; subst er3; have er12 := er12.symm; subst er12; have er21 := er21.symm; subst er21; have er47 := er47.symm; subst er47; have er56 := er56.symm; subst er56; have eσ74 := eσ74.symm; subst eσ74; have er74 := er74.symm; subst er74; exact ((if_neg c6).trans ((if_neg c15).trans ((if_neg c24).trans ((if_neg c29).trans ((if_pos c35).trans ((if_pos c50).trans ((if_neg c59).trans rfl))))))))
                exact M_retz C h hr hlocks (congrArg Prod.fst he) (congrArg Prod.snd he) br74 hpq dX6_trio_77
              · have i59 := c_eq c59
                refine lv_aload_n hx hb dX6_trio_62 rfl (lv_at hl 0 rfl) ?_
                refine lv_iload_n hx hb dX6_trio_63 rfl (lv_at hl 2 rfl) ?_
                refine lv_iload_n hx hb dX6_trio_64 rfl (lv_at hl 3 rfl) ?_
                refine M_callz (As := [.int p2, .int p3]) (rest := []) 2 C h (k_X6_isEndless l g σ p2 p3 (by first | assumption | omega) (by first | assumption | omega)) (lw_V q2002 q2004 qs114 q152 q2005) rfl rfl (by decide +kernel) ⟨Nat.le_of_ble_eq_true rfl, Nat.le_of_ble_eq_true rfl⟩ rfl hl.1 rfl (Nat.le_of_ble_eq_true rfl) ⟨Nat.le_of_ble_eq_true rfl, Nat.le_of_ble_eq_true rfl⟩ dX6_trio_65 (fun r65 σ65 H locs eσ65 er65 br65 hE65 h => ?_)
                rw [eσ65] at h
                clear hE65
                clear eσ65
                refine lv_if_eq (tgt := 78) hx hb dX6_trio_68 (by decide) (fun c68 => ?_) (fun c68 => ?_)
                · have i68 := c_eq c68
                  refine lv_bipush (v := 16) hx hb dX6_trio_78 (by decide) ?_
                  refine lv_aload_n hx hb dX6_trio_80 rfl (lv_at hl 0 rfl) ?_
                  refine lv_iload_n hx hb dX6_trio_81 rfl (lv_at hl 1 rfl) ?_
                  refine M_calli (As := [.int p1]) (rest := [.int (16 : Int32)]) 1 C h (k_X6_insists l g σ p1 (by first | assumption | omega)) (lw_V q2006 q2008 qs115 q152 q2009) rfl rfl (by decide +kernel) ⟨Nat.le_of_ble_eq_true rfl, Nat.le_of_ble_eq_true rfl⟩ rfl hl.1 rfl (Nat.le_of_ble_eq_true rfl) ⟨Nat.le_of_ble_eq_true rfl, Nat.le_of_ble_eq_true rfl⟩ dX6_trio_82 (fun r82 σ82 H locs eσ82 er82 hE82 h => ?_)
                  rw [eσ82] at h
                  clear hE82
                  clear eσ82
                  refine lv_isub hx hb dX6_trio_85 ?_
                  refine lv_sipush (v := 256) hx hb dX6_trio_86 (by decide) ?_
                  refine lv_imul hx hb dX6_trio_89 ?_
                  refine lv_topi (fun v90 ev90 => ?_)
                  refine lv_istore (lv' := [(5, .int v90), (0, .ref (g.2.1 99)), (1, .int p1), (2, .int p2), (3, .int p3), (4, .int p4)]) hx hb dX6_trio_90 hl (by decide) rfl (fun ls hl => ?_)
                  refine lv_aload_n hx hb dX6_trio_92 rfl (lv_at hl 1 rfl) ?_
                  refine lv_iload_n hx hb dX6_trio_93 rfl (lv_at hl 2 rfl) ?_
                  refine M_calli (As := [.int p1]) (rest := []) 1 C h (k_X6_insists l g σ p1 (by first | assumption | omega)) (lw_V q2006 q2008 qs115 q152 q2009) rfl rfl (by decide +kernel) ⟨Nat.le_of_ble_eq_true rfl, Nat.le_of_ble_eq_true rfl⟩ rfl hl.1 rfl (Nat.le_of_ble_eq_true rfl) ⟨Nat.le_of_ble_eq_true rfl, Nat.le_of_ble_eq_true rfl⟩ dX6_trio_94 (fun r94 σ94 H locs eσ94 er94 hE94 h => ?_)
                  rw [eσ94] at h
                  clear hE94
                  clear eσ94
                  refine lv_bipush (v := 16) hx hb dX6_trio_97 (by decide) ?_
                  refine lv_aload_n hx hb dX6_trio_99 rfl (lv_at hl 1 rfl) ?_
                  refine lv_iload_n hx hb dX6_trio_100 rfl (lv_at hl 3 rfl) ?_
                  refine M_calli (As := [.int p2]) (rest := [.int (16 : Int32), .int r94]) 1 C h (k_X6_insists l g σ p2 (by first | assumption | omega)) (lw_V q2006 q2008 qs115 q152 q2009) rfl rfl (by decide +kernel) ⟨Nat.le_of_ble_eq_true rfl, Nat.le_of_ble_eq_true rfl⟩ rfl hl.1 rfl (Nat.le_of_ble_eq_true rfl) ⟨Nat.le_of_ble_eq_true rfl, Nat.le_of_ble_eq_true rfl⟩ dX6_trio_101 (fun r101 σ101 H locs eσ101 er101 hE101 h => ?_)
                  rw [eσ101] at h
                  clear hE101
                  clear eσ101
                  refine lv_isub hx hb dX6_trio_104 ?_
                  refine lv_imul hx hb dX6_trio_105 ?_
                  refine lv_bipush (v := 16) hx hb dX6_trio_106 (by decide) ?_
                  refine lv_imul hx hb dX6_trio_108 ?_
                  refine lv_topi (fun v109 ev109 => ?_)
                  refine lv_istore (lv' := [(6, .int v109), (5, .int v90), (0, .ref (g.2.1 99)), (1, .int p1), (2, .int p2), (3, .int p3), (4, .int p4)]) hx hb dX6_trio_109 hl (by decide) rfl (fun ls hl => ?_)
                  refine lv_aload_n hx hb dX6_trio_111 rfl (lv_at hl 2 rfl) ?_
                  refine lv_iload_n hx hb dX6_trio_112 rfl (lv_at hl 3 rfl) ?_
                  refine M_calli (As := [.int p1]) (rest := []) 1 C h (k_X6_insists l g σ p1 (by first | assumption | omega)) (lw_V q2006 q2008 qs115 q152 q2009) rfl rfl (by decide +kernel) ⟨Nat.le_of_ble_eq_true rfl, Nat.le_of_ble_eq_true rfl⟩ rfl hl.1 rfl (Nat.le_of_ble_eq_true rfl) ⟨Nat.le_of_ble_eq_true rfl, Nat.le_of_ble_eq_true rfl⟩ dX6_trio_113 (fun r113 σ113 H locs eσ113 er113 hE113 h => ?_)
                  rw [eσ113] at h
                  clear hE113
                  clear eσ113
                  refine lv_aload_n hx hb dX6_trio_116 rfl (lv_at hl 2 rfl) ?_
                  refine lv_iload_n hx hb dX6_trio_117 rfl (lv_at hl 4 rfl) ?_
                  refine M_calli (As := [.int p2]) (rest := [.int r113]) 1 C h (k_X6_insists l g σ p2 (by first | assumption | omega)) (lw_V q2006 q2008 qs115 q152 q2009) rfl rfl (by decide +kernel) ⟨Nat.le_of_ble_eq_true rfl, Nat.le_of_ble_eq_true rfl⟩ rfl hl.1 rfl (Nat.le_of_ble_eq_true rfl) ⟨Nat.le_of_ble_eq_true rfl, Nat.le_of_ble_eq_true rfl⟩ dX6_trio_118 (fun r118 σ118 H locs eσ118 er118 hE118 h => ?_)
                  rw [eσ118] at h
                  clear hE118
                  clear eσ118
                  refine lv_imul hx hb dX6_trio_121 ?_
                  refine lv_bipush (v := 16) hx hb dX6_trio_122 (by decide) ?_
                  refine lv_aload_n hx hb dX6_trio_124 rfl (lv_at hl 2 rfl) ?_
                  refine lv_iload_n hx hb dX6_trio_125 rfl (lv_at hl 5 rfl) ?_
                  refine M_calli (As := [.int p3]) (rest := [.int (16 : Int32), .int (r113 * r118)]) 1 C h (k_X6_insists l g σ p3 (by first | assumption | omega)) (lw_V q2006 q2008 qs115 q152 q2009) rfl rfl (by decide +kernel) ⟨Nat.le_of_ble_eq_true rfl, Nat.le_of_ble_eq_true rfl⟩ rfl hl.1 rfl (Nat.le_of_ble_eq_true rfl) ⟨Nat.le_of_ble_eq_true rfl, Nat.le_of_ble_eq_true rfl⟩ dX6_trio_126 (fun r126 σ126 H locs eσ126 er126 hE126 h => ?_)
                  rw [eσ126] at h
                  clear hE126
                  clear eσ126
                  refine lv_isub hx hb dX6_trio_129 ?_
                  refine lv_imul hx hb dX6_trio_130 ?_
                  refine lv_topi (fun v131 ev131 => ?_)
                  refine lv_istore (lv' := [(7, .int v131), (6, .int v109), (5, .int v90), (0, .ref (g.2.1 99)), (1, .int p1), (2, .int p2), (3, .int p3), (4, .int p4)]) hx hb dX6_trio_131 hl (by decide) rfl (fun ls hl => ?_)
                  refine lv_ldc2 hx hb hown (hts _ q2031) dX6_trio_133 ?_
                  refine lv_aload_n hx hb dX6_trio_136 rfl (lv_at hl 3 rfl) ?_
                  refine lv_iload_n hx hb dX6_trio_137 rfl (lv_at hl 4 rfl) ?_
                  refine M_calli (As := [.int p1]) (rest := [.long (4096 : Int64)]) 1 C h (k_X6_insists l g σ p1 (by first | assumption | omega)) (lw_V q2006 q2008 qs115 q152 q2009) rfl rfl (by decide +kernel) ⟨Nat.le_of_ble_eq_true rfl, Nat.le_of_ble_eq_true rfl⟩ rfl hl.1 rfl (Nat.le_of_ble_eq_true rfl) ⟨Nat.le_of_ble_eq_true rfl, Nat.le_of_ble_eq_true rfl⟩ dX6_trio_138 (fun r138 σ138 H locs eσ138 er138 hE138 h => ?_)
                  rw [eσ138] at h
                  clear hE138
                  clear eσ138
                  refine lv_aload_n hx hb dX6_trio_141 rfl (lv_at hl 3 rfl) ?_
                  refine lv_iload_n hx hb dX6_trio_142 rfl (lv_at hl 5 rfl) ?_
                  refine M_calli (As := [.int p2]) (rest := [.int r138, .long (4096 : Int64)]) 1 C h (k_X6_insists l g σ p2 (by first | assumption | omega)) (lw_V q2006 q2008 qs115 q152 q2009) rfl rfl (by decide +kernel) ⟨Nat.le_of_ble_eq_true rfl, Nat.le_of_ble_eq_true rfl⟩ rfl hl.1 rfl (Nat.le_of_ble_eq_true rfl) ⟨Nat.le_of_ble_eq_true rfl, Nat.le_of_ble_eq_true rfl⟩ dX6_trio_143 (fun r143 σ143 H locs eσ143 er143 hE143 h => ?_)
                  rw [eσ143] at h
                  clear hE143
                  clear eσ143
                  refine lv_imul hx hb dX6_trio_146 ?_
                  refine lv_aload_n hx hb dX6_trio_147 rfl (lv_at hl 3 rfl) ?_
                  refine lv_iload_n hx hb dX6_trio_148 rfl (lv_at hl 6 rfl) ?_
                  refine M_calli (As := [.int p3]) (rest := [.int (r138 * r143), .long (4096 : Int64)]) 1 C h (k_X6_insists l g σ p3 (by first | assumption | omega)) (lw_V q2006 q2008 qs115 q152 q2009) rfl rfl (by decide +kernel) ⟨Nat.le_of_ble_eq_true rfl, Nat.le_of_ble_eq_true rfl⟩ rfl hl.1 rfl (Nat.le_of_ble_eq_true rfl) ⟨Nat.le_of_ble_eq_true rfl, Nat.le_of_ble_eq_true rfl⟩ dX6_trio_149 (fun r149 σ149 H locs eσ149 er149 hE149 h => ?_)
                  rw [eσ149] at h
                  clear hE149
                  clear eσ149
                  refine lv_imul hx hb dX6_trio_152 ?_
                  refine lv_i2l (v := ((r138 * r143) * r149).toInt64) hx hb dX6_trio_153 rfl ?_
                  refine lv_lsub hx hb dX6_trio_154 ?_
                  refine lv_topl (fun v155 ev155 => ?_)
                  refine lv_lstore (lv' := [(8, .long v155), (7, .int v131), (6, .int v109), (5, .int v90), (0, .ref (g.2.1 99)), (1, .int p1), (2, .int p2), (3, .int p3), (4, .int p4)]) hx hb dX6_trio_155 hl (by decide) rfl (fun ls hl => ?_)
                  refine lv_lconst (v := 0) hx hb dX6_trio_157 (by decide) ?_
                  refine lv_lstore (lv' := [(10, .long (0 : Int64)), (8, .long v155), (7, .int v131), (6, .int v109), (5, .int v90), (0, .ref (g.2.1 99)), (1, .int p1), (2, .int p2), (3, .int p3), (4, .int p4)]) hx hb dX6_trio_158 hl (by decide) rfl (fun ls hl => ?_)
                  refine lv_iload hx hb dX6_trio_160 (lv_at hl 9 rfl) ?_
                  have j219 : ∀ (x10_219 : Int64) (H : Heap) (locs : List Loc) (ls : Array Slot) (ej219 : (if p4 = (0 : Int32) then ((0 : Int64)) else ((let z198_ : Int32 := (if p4 = (1 : Int32) then ((let r179 := (f_X6_first σ p2 p3); r179)) else ((let r188 := (f_X6_behind σ p2 p3); let r194 := (f_X6_first σ p2 p3); (r188 - r194)))); let t0_198 := z198_; (let r203 := (f_X6_behind σ p3 p1); let r211 := (f_X6_behind σ p1 p2); let v217 := ((0 : Int64) + (((v90.toInt64 * t0_198.toInt64) * r203.toInt64) * r211.toInt64)); v217)))) = x10_219) (h : MH g σ s H locs) (hl : lv_has ls 12 [(0, .ref (g.2.1 99)), (1, .int p1), (2, .int p2), (3, .int p3), (4, .int p4), (6, .int v109), (7, .int v131), (8, .long v155), (10, .long x10_219)]), W p l e ({ frames := 3, cells := 0, slots := 0, locals := 63 } : Room) s m args below meth c H locs 0 0 (MQ below (mQz g (f_X6_trio σ p1 p2 p3 p4).1 (f_X6_trio σ p1 p2 p3 p4).2 (fun u r => ((ga u 0 (0 : Int32)).toInt = (ga σ 0 (0 : Int32)).toInt))) args s 0 0 (mA g)) (F0 m 219 ls []) := by
                    intro x10_219 H locs ls ej219 h hl
                    have ex10_219 := ej219.symm
                    refine lv_iload hx hb dX6_trio_219 (lv_at hl 4 rfl) ?_
                    refine lv_iconst (v := 1) hx hb dX6_trio_221 (by decide) ?_
                    have j279 : ∀ (x10_279 : Int64) (H : Heap) (locs : List Loc) (ls : Array Slot) (ej279 : (if p4 = (1 : Int32) then (x10_219) else ((let z258_ : Int32 := (if p4 = (2 : Int32) then ((let r239 := (f_X6_first σ p3 p1); r239)) else ((let r248 := (f_X6_behind σ p3 p1); let r254 := (f_X6_first σ p3 p1); (r248 - r254)))); let t0_258 := z258_; (let r263 := (f_X6_behind σ p2 p3); let r271 := (f_X6_behind σ p1 p2); let v277 := (x10_219 + (((v109.toInt64 * t0_258.toInt64) * r263.toInt64) * r271.toInt64)); v277)))) = x10_279) (h : MH g σ s H locs) (hl : lv_has ls 12 [(0, .ref (g.2.1 99)), (1, .int p1), (2, .int p2), (3, .int p3), (4, .int p4), (7, .int v131), (8, .long v155), (10, .long x10_279)]), W p l e ({ frames := 3, cells := 0, slots := 0, locals := 63 } : Room) s m args below meth c H locs 0 0 (MQ below (mQz g (f_X6_trio σ p1 p2 p3 p4).1 (f_X6_trio σ p1 p2 p3 p4).2 (fun u r => ((ga u 0 (0 : Int32)).toInt = (ga σ 0 (0 : Int32)).toInt))) args s 0 0 (mA g)) (F0 m 279 ls []) := by
                      intro x10_279 H locs ls ej279 h hl
                      have ex10_279 := ej279.symm
                      refine lv_iload hx hb dX6_trio_279 (lv_at hl 4 rfl) ?_
                      refine lv_iconst (v := 2) hx hb dX6_trio_281 (by decide) ?_
                      have j338 : ∀ (x10_338 : Int64) (H : Heap) (locs : List Loc) (ls : Array Slot) (ej338 : (if p4 = (2 : Int32) then (x10_279) else ((let z317_ : Int32 := (if p4 = (0 : Int32) then ((let r298 := (f_X6_first σ p1 p2); r298)) else ((let r307 := (f_X6_behind σ p1 p2); let r313 := (f_X6_first σ p1 p2); (r307 - r313)))); let t0_317 := z317_; (let r322 := (f_X6_behind σ p2 p3); let r330 := (f_X6_behind σ p3 p1); let v336 := (x10_279 + (((v131.toInt64 * t0_317.toInt64) * r322.toInt64) * r330.toInt64)); v336)))) = x10_338) (h : MH g σ s H locs) (hl : lv_has ls 12 [(0, .ref (g.2.1 99)), (1, .int p1), (2, .int p2), (3, .int p3), (8, .long v155), (10, .long x10_338)]), W p l e ({ frames := 3, cells := 0, slots := 0, locals := 63 } : Room) s m args below meth c H locs 0 0 (MQ below (mQz g (f_X6_trio σ p1 p2 p3 p4).1 (f_X6_trio σ p1 p2 p3 p4).2 (fun u r => ((ga u 0 (0 : Int32)).toInt = (ga σ 0 (0 : Int32)).toInt))) args s 0 0 (mA g)) (F0 m 338 ls []) := by
                        intro x10_338 H locs ls ej338 h hl
                        have ex10_338 := ej338.symm
                        refine lv_aload_n hx hb dX6_trio_338 rfl (lv_at hl 0 rfl) ?_
                        refine lv_lload hx hb dX6_trio_339 (lv_at hl 5 rfl) ?_
                        refine lv_lload hx hb dX6_trio_341 (lv_at hl 4 rfl) ?_
                        refine lv_aload_n hx hb dX6_trio_343 rfl (lv_at hl 0 rfl) ?_
                        refine lv_iload_n hx hb dX6_trio_344 rfl (lv_at hl 1 rfl) ?_
                        refine lv_iload_n hx hb dX6_trio_345 rfl (lv_at hl 2 rfl) ?_
                        refine M_calli (As := [.int p1, .int p2]) (rest := [.long v155, .long x10_338, .ref (g.2.1 99)]) 2 C h (k_X6_behind l g σ p1 p2 (by first | assumption | omega) (by first | assumption | omega)) (lw_V q2014 q2016 qs117 q152 q2017) rfl rfl (by decide +kernel) ⟨Nat.le_of_ble_eq_true rfl, Nat.le_of_ble_eq_true rfl⟩ rfl hl.1 rfl (Nat.le_of_ble_eq_true rfl) ⟨Nat.le_of_ble_eq_true rfl, Nat.le_of_ble_eq_true rfl⟩ dX6_trio_346 (fun r346 σ346 H locs eσ346 er346 hE346 h => ?_)
                        rw [eσ346] at h
                        clear hE346
                        clear eσ346
                        refine lv_i2l (v := r346.toInt64) hx hb dX6_trio_349 rfl ?_
                        refine lv_lmul hx hb dX6_trio_350 ?_
                        refine lv_aload_n hx hb dX6_trio_351 rfl (lv_at hl 0 rfl) ?_
                        refine lv_iload_n hx hb dX6_trio_352 rfl (lv_at hl 2 rfl) ?_
                        refine lv_iload_n hx hb dX6_trio_353 rfl (lv_at hl 3 rfl) ?_
                        refine M_calli (As := [.int p2, .int p3]) (rest := [.long (v155 * r346.toInt64), .long x10_338, .ref (g.2.1 99)]) 2 C h (k_X6_behind l g σ p2 p3 (by first | assumption | omega) (by first | assumption | omega)) (lw_V q2014 q2016 qs117 q152 q2017) rfl rfl (by decide +kernel) ⟨Nat.le_of_ble_eq_true rfl, Nat.le_of_ble_eq_true rfl⟩ rfl hl.1 rfl (Nat.le_of_ble_eq_true rfl) ⟨Nat.le_of_ble_eq_true rfl, Nat.le_of_ble_eq_true rfl⟩ dX6_trio_354 (fun r354 σ354 H locs eσ354 er354 hE354 h => ?_)
                        rw [eσ354] at h
                        clear hE354
                        clear eσ354
                        refine lv_i2l (v := r354.toInt64) hx hb dX6_trio_357 rfl ?_
                        refine lv_lmul hx hb dX6_trio_358 ?_
                        refine lv_aload_n hx hb dX6_trio_359 rfl (lv_at hl 0 rfl) ?_
                        refine lv_iload_n hx hb dX6_trio_360 rfl (lv_at hl 3 rfl) ?_
                        refine lv_iload_n hx hb dX6_trio_361 rfl (lv_at hl 1 rfl) ?_
                        refine M_calli (As := [.int p3, .int p1]) (rest := [.long ((v155 * r346.toInt64) * r354.toInt64), .long x10_338, .ref (g.2.1 99)]) 2 C h (k_X6_behind l g σ p3 p1 (by first | assumption | omega) (by first | assumption | omega)) (lw_V q2014 q2016 qs117 q152 q2017) rfl rfl (by decide +kernel) ⟨Nat.le_of_ble_eq_true rfl, Nat.le_of_ble_eq_true rfl⟩ rfl hl.1 rfl (Nat.le_of_ble_eq_true rfl) ⟨Nat.le_of_ble_eq_true rfl, Nat.le_of_ble_eq_true rfl⟩ dX6_trio_362 (fun r362 σ362 H locs eσ362 er362 hE362 h => ?_)
                        rw [eσ362] at h
                        clear hE362
                        clear eσ362
                        refine lv_i2l (v := r362.toInt64) hx hb dX6_trio_365 rfl ?_
                        refine lv_lmul hx hb dX6_trio_366 ?_
                        refine M_callz (As := [.long x10_338, .long (((v155 * r346.toInt64) * r354.toInt64) * r362.toInt64)]) (rest := []) 2 C h (k_X6_tellsBy l g σ x10_338 (((v155 * r346.toInt64) * r354.toInt64) * r362.toInt64) (l_pos_ne (lmul_rng (lmul_rng (lmul_rng (trio_whole (a := p1) (b := p2) (c := p3) (hIn p1 (by omega)) (hIn p2 (by omega)) (hIn p3 (by omega)) (er47.symm.trans c50) er138 er143 er149 ev155) (i2l_rng (by rw [er346]; exact behind_pos (hIn p1 (by omega)) (hIn p2 (by omega)) (er47.symm.trans c50))) (by decide)) (i2l_rng (by rw [er354]; exact behind_pos (hIn p2 (by omega)) (hIn p3 (by omega)) (er65.symm.trans c68))) (by decide)) (i2l_rng (by rw [er362]; exact behind_posS (hIn p3 (by omega)) (hIn p1 (by omega)) (er56.symm.trans c59))) (by decide)))) (lw_V q2018 q2020 qs118 q152 q2021) rfl rfl (by decide +kernel) ⟨Nat.le_of_ble_eq_true rfl, Nat.le_of_ble_eq_true rfl⟩ rfl hl.1 rfl (Nat.le_of_ble_eq_true rfl) ⟨Nat.le_of_ble_eq_true rfl, Nat.le_of_ble_eq_true rfl⟩ dX6_trio_367 (fun r367 σ367 H locs eσ367 er367 br367 hE367 h => ?_)
                        clear hE367
                        have hNEW : (0 ≤ (ga σ367 0 (0 : Int32)).toInt ∧ (ga σ367 0 (0 : Int32)).toInt ≤ 6) ∧ ((ga σ367 0 (0 : Int32)).toInt = (ga σ 0 (0 : Int32)).toInt) := ⟨(by rw [eσ367, tellsBy_ga] <;> exact hp), (by rw [eσ367, tellsBy_ga] <;> exact hpq)⟩
                        obtain ⟨hp, hpq⟩ := hNEW
                        have he : f_X6_trio σ p1 p2 p3 p4 = (σ367, r367) := (by have er3 := er3.symm; subst er3; have er12 := er12.symm; subst er12; have er21 := er21.symm; subst er21; have er47 := er47.symm; subst er47; have er56 := er56.symm; subst er56; have er65 := er65.symm; subst er65; have er82 := er82.symm; subst er82; have ev90 := ev90.symm; subst ev90; have er94 := er94.symm; subst er94; have er101 := er101.symm; subst er101; have ev109 := ev109.symm; subst ev109; have er113 := er113.symm; subst er113; have er118 := er118.symm; subst er118; have er126 := er126.symm; subst er126; have ev131 := ev131.symm; subst ev131; have er138 := er138.symm; subst er138; have er143 := er143.symm; subst er143; have er149 := er149.symm; subst er149; have ev155 := ev155.symm; subst ev155; have ex10_219 := ex10_219.symm; subst ex10_219; have ex10_279 := ex10_279.symm; subst ex10_279; have ex10_338 := ex10_338.symm; subst ex10_338; have er346 := er346.symm; subst er346; have er354 := er354.symm; subst er354; have er362 := er362.symm; subst er362; have eσ367 := eσ367.symm; subst eσ367; have er367 := er367.symm; subst er367; exact ((if_neg c6).trans ((if_neg c15).trans ((if_neg c24).trans ((if_neg c29).trans ((if_pos c35).trans ((if_pos c50).trans ((if_pos c59).trans ((if_pos c68).trans rfl)))))))))
                        exact M_retz C h hr hlocks (congrArg Prod.fst he) (congrArg Prod.snd he) br367 hpq dX6_trio_370
                      refine lv_icmp_eq (tgt := 338) hx hb dX6_trio_282 (by decide) (fun c282 => ?_) (fun c282 => ?_)
                      · have i282 := c_eq c282
                        exact j338 _ _ _ _ (by exact ((if_pos c282).trans rfl)) h (lv_sub hl [0, 1, 2, 3, 6, 7] rfl)
                      · have i282 := c_ne c282
                        refine lv_lload hx hb dX6_trio_285 (lv_at hl 7 rfl) ?_
                        refine lv_iload hx hb dX6_trio_287 (lv_at hl 5 rfl) ?_
                        refine lv_i2l (v := v131.toInt64) hx hb dX6_trio_289 rfl ?_
                        refine lv_iload hx hb dX6_trio_290 (lv_at hl 4 rfl) ?_
                        have j317 : ∀ (t0_317 : Int32) (H : Heap) (locs : List Loc) (ls : Array Slot) (ej317 : (if p4 = (0 : Int32) then ((let r298 := (f_X6_first σ p1 p2); r298)) else ((let r307 := (f_X6_behind σ p1 p2); let r313 := (f_X6_first σ p1 p2); (r307 - r313)))) = t0_317) (h : MH g σ s H locs) (hl : lv_has ls 12 [(0, .ref (g.2.1 99)), (1, .int p1), (2, .int p2), (3, .int p3), (8, .long v155)]), W p l e ({ frames := 3, cells := 0, slots := 0, locals := 63 } : Room) s m args below meth c H locs 0 0 (MQ below (mQz g (f_X6_trio σ p1 p2 p3 p4).1 (f_X6_trio σ p1 p2 p3 p4).2 (fun u r => ((ga u 0 (0 : Int32)).toInt = (ga σ 0 (0 : Int32)).toInt))) args s 0 0 (mA g)) (F0 m 317 ls [.int t0_317, .long v131.toInt64, .long x10_279]) := by
                          intro t0_317 H locs ls ej317 h hl
                          have et0_317 := ej317.symm
                          refine lv_i2l (v := t0_317.toInt64) hx hb dX6_trio_317 rfl ?_
                          refine lv_lmul hx hb dX6_trio_318 ?_
                          refine lv_aload_n hx hb dX6_trio_319 rfl (lv_at hl 0 rfl) ?_
                          refine lv_iload_n hx hb dX6_trio_320 rfl (lv_at hl 2 rfl) ?_
                          refine lv_iload_n hx hb dX6_trio_321 rfl (lv_at hl 3 rfl) ?_
                          refine M_calli (As := [.int p2, .int p3]) (rest := [.long (v131.toInt64 * t0_317.toInt64), .long x10_279]) 2 C h (k_X6_behind l g σ p2 p3 (by first | assumption | omega) (by first | assumption | omega)) (lw_V q2014 q2016 qs117 q152 q2017) rfl rfl (by decide +kernel) ⟨Nat.le_of_ble_eq_true rfl, Nat.le_of_ble_eq_true rfl⟩ rfl hl.1 rfl (Nat.le_of_ble_eq_true rfl) ⟨Nat.le_of_ble_eq_true rfl, Nat.le_of_ble_eq_true rfl⟩ dX6_trio_322 (fun r322 σ322 H locs eσ322 er322 hE322 h => ?_)
                          rw [eσ322] at h
                          clear hE322
                          clear eσ322
                          refine lv_i2l (v := r322.toInt64) hx hb dX6_trio_325 rfl ?_
                          refine lv_lmul hx hb dX6_trio_326 ?_
                          refine lv_aload_n hx hb dX6_trio_327 rfl (lv_at hl 0 rfl) ?_
                          refine lv_iload_n hx hb dX6_trio_328 rfl (lv_at hl 3 rfl) ?_
                          refine lv_iload_n hx hb dX6_trio_329 rfl (lv_at hl 1 rfl) ?_
                          refine M_calli (As := [.int p3, .int p1]) (rest := [.long ((v131.toInt64 * t0_317.toInt64) * r322.toInt64), .long x10_279]) 2 C h (k_X6_behind l g σ p3 p1 (by first | assumption | omega) (by first | assumption | omega)) (lw_V q2014 q2016 qs117 q152 q2017) rfl rfl (by decide +kernel) ⟨Nat.le_of_ble_eq_true rfl, Nat.le_of_ble_eq_true rfl⟩ rfl hl.1 rfl (Nat.le_of_ble_eq_true rfl) ⟨Nat.le_of_ble_eq_true rfl, Nat.le_of_ble_eq_true rfl⟩ dX6_trio_330 (fun r330 σ330 H locs eσ330 er330 hE330 h => ?_)
                          rw [eσ330] at h
                          clear hE330
                          clear eσ330
                          refine lv_i2l (v := r330.toInt64) hx hb dX6_trio_333 rfl ?_
                          refine lv_lmul hx hb dX6_trio_334 ?_
                          refine lv_ladd hx hb dX6_trio_335 ?_
                          refine lv_topl (fun v336 ev336 => ?_)
                          refine lv_lstore (lv' := [(10, .long v336), (0, .ref (g.2.1 99)), (1, .int p1), (2, .int p2), (3, .int p3), (8, .long v155)]) hx hb dX6_trio_336 hl (by decide) rfl (fun ls hl => ?_)
                          exact j338 _ _ _ _ (by have et0_317 := et0_317.symm; subst et0_317; have er322 := er322.symm; subst er322; have er330 := er330.symm; subst er330; have ev336 := ev336.symm; subst ev336; exact ((if_neg c282).trans rfl)) h (lv_sub hl [1, 2, 3, 4, 5, 0] rfl)
                        refine lv_if_ne (tgt := 304) hx hb dX6_trio_292 (by decide) (fun c292 => ?_) (fun c292 => ?_)
                        · have i292 := c_ne c292
                          refine lv_aload_n hx hb dX6_trio_304 rfl (lv_at hl 0 rfl) ?_
                          refine lv_iload_n hx hb dX6_trio_305 rfl (lv_at hl 1 rfl) ?_
                          refine lv_iload_n hx hb dX6_trio_306 rfl (lv_at hl 2 rfl) ?_
                          refine M_calli (As := [.int p1, .int p2]) (rest := [.long v131.toInt64, .long x10_279]) 2 C h (k_X6_behind l g σ p1 p2 (by first | assumption | omega) (by first | assumption | omega)) (lw_V q2014 q2016 qs117 q152 q2017) rfl rfl (by decide +kernel) ⟨Nat.le_of_ble_eq_true rfl, Nat.le_of_ble_eq_true rfl⟩ rfl hl.1 rfl (Nat.le_of_ble_eq_true rfl) ⟨Nat.le_of_ble_eq_true rfl, Nat.le_of_ble_eq_true rfl⟩ dX6_trio_307 (fun r307 σ307 H locs eσ307 er307 hE307 h => ?_)
                          rw [eσ307] at h
                          clear hE307
                          clear eσ307
                          refine lv_aload_n hx hb dX6_trio_310 rfl (lv_at hl 0 rfl) ?_
                          refine lv_iload_n hx hb dX6_trio_311 rfl (lv_at hl 1 rfl) ?_
                          refine lv_iload_n hx hb dX6_trio_312 rfl (lv_at hl 2 rfl) ?_
                          refine M_calli (As := [.int p1, .int p2]) (rest := [.int r307, .long v131.toInt64, .long x10_279]) 2 C h (k_X6_first l g σ p1 p2 (by first | assumption | omega) (by first | assumption | omega)) (lw_V q2010 q2012 qs116 q152 q2013) rfl rfl (by decide +kernel) ⟨Nat.le_of_ble_eq_true rfl, Nat.le_of_ble_eq_true rfl⟩ rfl hl.1 rfl (Nat.le_of_ble_eq_true rfl) ⟨Nat.le_of_ble_eq_true rfl, Nat.le_of_ble_eq_true rfl⟩ dX6_trio_313 (fun r313 σ313 H locs eσ313 er313 hE313 h => ?_)
                          rw [eσ313] at h
                          clear hE313
                          clear eσ313
                          refine lv_isub hx hb dX6_trio_316 ?_
                          exact j317 _ _ _ _ (by have er307 := er307.symm; subst er307; have er313 := er313.symm; subst er313; exact ((if_neg c292).trans rfl)) h (lv_sub hl [0, 1, 2, 3, 6] rfl)
                        · have i292 := c_eq c292
                          refine lv_aload_n hx hb dX6_trio_295 rfl (lv_at hl 0 rfl) ?_
                          refine lv_iload_n hx hb dX6_trio_296 rfl (lv_at hl 1 rfl) ?_
                          refine lv_iload_n hx hb dX6_trio_297 rfl (lv_at hl 2 rfl) ?_
                          refine M_calli (As := [.int p1, .int p2]) (rest := [.long v131.toInt64, .long x10_279]) 2 C h (k_X6_first l g σ p1 p2 (by first | assumption | omega) (by first | assumption | omega)) (lw_V q2010 q2012 qs116 q152 q2013) rfl rfl (by decide +kernel) ⟨Nat.le_of_ble_eq_true rfl, Nat.le_of_ble_eq_true rfl⟩ rfl hl.1 rfl (Nat.le_of_ble_eq_true rfl) ⟨Nat.le_of_ble_eq_true rfl, Nat.le_of_ble_eq_true rfl⟩ dX6_trio_298 (fun r298 σ298 H locs eσ298 er298 hE298 h => ?_)
                          rw [eσ298] at h
                          clear hE298
                          clear eσ298
                          refine lv_goto (tgt := 317) hx hb dX6_trio_301 (by decide) ?_
                          exact j317 _ _ _ _ (by have er298 := er298.symm; subst er298; exact ((if_pos c292).trans rfl)) h (lv_sub hl [0, 1, 2, 3, 6] rfl)
                    refine lv_icmp_eq (tgt := 279) hx hb dX6_trio_222 (by decide) (fun c222 => ?_) (fun c222 => ?_)
                    · have i222 := c_eq c222
                      exact j279 _ _ _ _ (by exact ((if_pos c222).trans rfl)) h (lv_sub hl [0, 1, 2, 3, 4, 6, 7, 8] rfl)
                    · have i222 := c_ne c222
                      refine lv_lload hx hb dX6_trio_225 (lv_at hl 8 rfl) ?_
                      refine lv_iload hx hb dX6_trio_227 (lv_at hl 5 rfl) ?_
                      refine lv_i2l (v := v109.toInt64) hx hb dX6_trio_229 rfl ?_
                      refine lv_iload hx hb dX6_trio_230 (lv_at hl 4 rfl) ?_
                      refine lv_iconst (v := 2) hx hb dX6_trio_232 (by decide) ?_
                      have j258 : ∀ (t0_258 : Int32) (H : Heap) (locs : List Loc) (ls : Array Slot) (ej258 : (if p4 = (2 : Int32) then ((let r239 := (f_X6_first σ p3 p1); r239)) else ((let r248 := (f_X6_behind σ p3 p1); let r254 := (f_X6_first σ p3 p1); (r248 - r254)))) = t0_258) (h : MH g σ s H locs) (hl : lv_has ls 12 [(0, .ref (g.2.1 99)), (1, .int p1), (2, .int p2), (3, .int p3), (4, .int p4), (7, .int v131), (8, .long v155)]), W p l e ({ frames := 3, cells := 0, slots := 0, locals := 63 } : Room) s m args below meth c H locs 0 0 (MQ below (mQz g (f_X6_trio σ p1 p2 p3 p4).1 (f_X6_trio σ p1 p2 p3 p4).2 (fun u r => ((ga u 0 (0 : Int32)).toInt = (ga σ 0 (0 : Int32)).toInt))) args s 0 0 (mA g)) (F0 m 258 ls [.int t0_258, .long v109.toInt64, .long x10_219]) := by
                        intro t0_258 H locs ls ej258 h hl
                        have et0_258 := ej258.symm
                        refine lv_i2l (v := t0_258.toInt64) hx hb dX6_trio_258 rfl ?_
                        refine lv_lmul hx hb dX6_trio_259 ?_
                        refine lv_aload_n hx hb dX6_trio_260 rfl (lv_at hl 0 rfl) ?_
                        refine lv_iload_n hx hb dX6_trio_261 rfl (lv_at hl 2 rfl) ?_
                        refine lv_iload_n hx hb dX6_trio_262 rfl (lv_at hl 3 rfl) ?_
                        refine M_calli (As := [.int p2, .int p3]) (rest := [.long (v109.toInt64 * t0_258.toInt64), .long x10_219]) 2 C h (k_X6_behind l g σ p2 p3 (by first | assumption | omega) (by first | assumption | omega)) (lw_V q2014 q2016 qs117 q152 q2017) rfl rfl (by decide +kernel) ⟨Nat.le_of_ble_eq_true rfl, Nat.le_of_ble_eq_true rfl⟩ rfl hl.1 rfl (Nat.le_of_ble_eq_true rfl) ⟨Nat.le_of_ble_eq_true rfl, Nat.le_of_ble_eq_true rfl⟩ dX6_trio_263 (fun r263 σ263 H locs eσ263 er263 hE263 h => ?_)
                        rw [eσ263] at h
                        clear hE263
                        clear eσ263
                        refine lv_i2l (v := r263.toInt64) hx hb dX6_trio_266 rfl ?_
                        refine lv_lmul hx hb dX6_trio_267 ?_
                        refine lv_aload_n hx hb dX6_trio_268 rfl (lv_at hl 0 rfl) ?_
                        refine lv_iload_n hx hb dX6_trio_269 rfl (lv_at hl 1 rfl) ?_
                        refine lv_iload_n hx hb dX6_trio_270 rfl (lv_at hl 2 rfl) ?_
                        refine M_calli (As := [.int p1, .int p2]) (rest := [.long ((v109.toInt64 * t0_258.toInt64) * r263.toInt64), .long x10_219]) 2 C h (k_X6_behind l g σ p1 p2 (by first | assumption | omega) (by first | assumption | omega)) (lw_V q2014 q2016 qs117 q152 q2017) rfl rfl (by decide +kernel) ⟨Nat.le_of_ble_eq_true rfl, Nat.le_of_ble_eq_true rfl⟩ rfl hl.1 rfl (Nat.le_of_ble_eq_true rfl) ⟨Nat.le_of_ble_eq_true rfl, Nat.le_of_ble_eq_true rfl⟩ dX6_trio_271 (fun r271 σ271 H locs eσ271 er271 hE271 h => ?_)
                        rw [eσ271] at h
                        clear hE271
                        clear eσ271
                        refine lv_i2l (v := r271.toInt64) hx hb dX6_trio_274 rfl ?_
                        refine lv_lmul hx hb dX6_trio_275 ?_
                        refine lv_ladd hx hb dX6_trio_276 ?_
                        refine lv_topl (fun v277 ev277 => ?_)
                        refine lv_lstore (lv' := [(10, .long v277), (0, .ref (g.2.1 99)), (1, .int p1), (2, .int p2), (3, .int p3), (4, .int p4), (7, .int v131), (8, .long v155)]) hx hb dX6_trio_277 hl (by decide) rfl (fun ls hl => ?_)
                        exact j279 _ _ _ _ (by have et0_258 := et0_258.symm; subst et0_258; have er263 := er263.symm; subst er263; have er271 := er271.symm; subst er271; have ev277 := ev277.symm; subst ev277; exact ((if_neg c222).trans rfl)) h (lv_sub hl [1, 2, 3, 4, 5, 6, 7, 0] rfl)
                      refine lv_icmp_ne (tgt := 245) hx hb dX6_trio_233 (by decide) (fun c233 => ?_) (fun c233 => ?_)
                      · have i233 := c_ne c233
                        refine lv_aload_n hx hb dX6_trio_245 rfl (lv_at hl 0 rfl) ?_
                        refine lv_iload_n hx hb dX6_trio_246 rfl (lv_at hl 3 rfl) ?_
                        refine lv_iload_n hx hb dX6_trio_247 rfl (lv_at hl 1 rfl) ?_
                        refine M_calli (As := [.int p3, .int p1]) (rest := [.long v109.toInt64, .long x10_219]) 2 C h (k_X6_behind l g σ p3 p1 (by first | assumption | omega) (by first | assumption | omega)) (lw_V q2014 q2016 qs117 q152 q2017) rfl rfl (by decide +kernel) ⟨Nat.le_of_ble_eq_true rfl, Nat.le_of_ble_eq_true rfl⟩ rfl hl.1 rfl (Nat.le_of_ble_eq_true rfl) ⟨Nat.le_of_ble_eq_true rfl, Nat.le_of_ble_eq_true rfl⟩ dX6_trio_248 (fun r248 σ248 H locs eσ248 er248 hE248 h => ?_)
                        rw [eσ248] at h
                        clear hE248
                        clear eσ248
                        refine lv_aload_n hx hb dX6_trio_251 rfl (lv_at hl 0 rfl) ?_
                        refine lv_iload_n hx hb dX6_trio_252 rfl (lv_at hl 3 rfl) ?_
                        refine lv_iload_n hx hb dX6_trio_253 rfl (lv_at hl 1 rfl) ?_
                        refine M_calli (As := [.int p3, .int p1]) (rest := [.int r248, .long v109.toInt64, .long x10_219]) 2 C h (k_X6_first l g σ p3 p1 (by first | assumption | omega) (by first | assumption | omega)) (lw_V q2010 q2012 qs116 q152 q2013) rfl rfl (by decide +kernel) ⟨Nat.le_of_ble_eq_true rfl, Nat.le_of_ble_eq_true rfl⟩ rfl hl.1 rfl (Nat.le_of_ble_eq_true rfl) ⟨Nat.le_of_ble_eq_true rfl, Nat.le_of_ble_eq_true rfl⟩ dX6_trio_254 (fun r254 σ254 H locs eσ254 er254 hE254 h => ?_)
                        rw [eσ254] at h
                        clear hE254
                        clear eσ254
                        refine lv_isub hx hb dX6_trio_257 ?_
                        exact j258 _ _ _ _ (by have er248 := er248.symm; subst er248; have er254 := er254.symm; subst er254; exact ((if_neg c233).trans rfl)) h (lv_sub hl [0, 1, 2, 3, 4, 6, 7] rfl)
                      · have i233 := c_eq c233
                        refine lv_aload_n hx hb dX6_trio_236 rfl (lv_at hl 0 rfl) ?_
                        refine lv_iload_n hx hb dX6_trio_237 rfl (lv_at hl 3 rfl) ?_
                        refine lv_iload_n hx hb dX6_trio_238 rfl (lv_at hl 1 rfl) ?_
                        refine M_calli (As := [.int p3, .int p1]) (rest := [.long v109.toInt64, .long x10_219]) 2 C h (k_X6_first l g σ p3 p1 (by first | assumption | omega) (by first | assumption | omega)) (lw_V q2010 q2012 qs116 q152 q2013) rfl rfl (by decide +kernel) ⟨Nat.le_of_ble_eq_true rfl, Nat.le_of_ble_eq_true rfl⟩ rfl hl.1 rfl (Nat.le_of_ble_eq_true rfl) ⟨Nat.le_of_ble_eq_true rfl, Nat.le_of_ble_eq_true rfl⟩ dX6_trio_239 (fun r239 σ239 H locs eσ239 er239 hE239 h => ?_)
                        rw [eσ239] at h
                        clear hE239
                        clear eσ239
                        refine lv_goto (tgt := 258) hx hb dX6_trio_242 (by decide) ?_
                        exact j258 _ _ _ _ (by have er239 := er239.symm; subst er239; exact ((if_pos c233).trans rfl)) h (lv_sub hl [0, 1, 2, 3, 4, 6, 7] rfl)
                  refine lv_if_eq (tgt := 219) hx hb dX6_trio_162 (by decide) (fun c162 => ?_) (fun c162 => ?_)
                  · have i162 := c_eq c162
                    exact j219 _ _ _ _ (by exact ((if_pos c162).trans rfl)) h (lv_sub hl [5, 6, 7, 8, 9, 3, 2, 1, 0] rfl)
                  · have i162 := c_ne c162
                    refine lv_lload hx hb dX6_trio_165 (lv_at hl 0 rfl) ?_
                    refine lv_iload hx hb dX6_trio_167 (lv_at hl 4 rfl) ?_
                    refine lv_i2l (v := v90.toInt64) hx hb dX6_trio_169 rfl ?_
                    refine lv_iload hx hb dX6_trio_170 (lv_at hl 9 rfl) ?_
                    refine lv_iconst (v := 1) hx hb dX6_trio_172 (by decide) ?_
                    have j198 : ∀ (t0_198 : Int32) (H : Heap) (locs : List Loc) (ls : Array Slot) (ej198 : (if p4 = (1 : Int32) then ((let r179 := (f_X6_first σ p2 p3); r179)) else ((let r188 := (f_X6_behind σ p2 p3); let r194 := (f_X6_first σ p2 p3); (r188 - r194)))) = t0_198) (h : MH g σ s H locs) (hl : lv_has ls 12 [(0, .ref (g.2.1 99)), (1, .int p1), (2, .int p2), (3, .int p3), (4, .int p4), (6, .int v109), (7, .int v131), (8, .long v155)]), W p l e ({ frames := 3, cells := 0, slots := 0, locals := 63 } : Room) s m args below meth c H locs 0 0 (MQ below (mQz g (f_X6_trio σ p1 p2 p3 p4).1 (f_X6_trio σ p1 p2 p3 p4).2 (fun u r => ((ga u 0 (0 : Int32)).toInt = (ga σ 0 (0 : Int32)).toInt))) args s 0 0 (mA g)) (F0 m 198 ls [.int t0_198, .long v90.toInt64, .long (0 : Int64)]) := by
                      intro t0_198 H locs ls ej198 h hl
                      have et0_198 := ej198.symm
                      refine lv_i2l (v := t0_198.toInt64) hx hb dX6_trio_198 rfl ?_
                      refine lv_lmul hx hb dX6_trio_199 ?_
                      refine lv_aload_n hx hb dX6_trio_200 rfl (lv_at hl 0 rfl) ?_
                      refine lv_iload_n hx hb dX6_trio_201 rfl (lv_at hl 3 rfl) ?_
                      refine lv_iload_n hx hb dX6_trio_202 rfl (lv_at hl 1 rfl) ?_
                      refine M_calli (As := [.int p3, .int p1]) (rest := [.long (v90.toInt64 * t0_198.toInt64), .long (0 : Int64)]) 2 C h (k_X6_behind l g σ p3 p1 (by first | assumption | omega) (by first | assumption | omega)) (lw_V q2014 q2016 qs117 q152 q2017) rfl rfl (by decide +kernel) ⟨Nat.le_of_ble_eq_true rfl, Nat.le_of_ble_eq_true rfl⟩ rfl hl.1 rfl (Nat.le_of_ble_eq_true rfl) ⟨Nat.le_of_ble_eq_true rfl, Nat.le_of_ble_eq_true rfl⟩ dX6_trio_203 (fun r203 σ203 H locs eσ203 er203 hE203 h => ?_)
                      rw [eσ203] at h
                      clear hE203
                      clear eσ203
                      refine lv_i2l (v := r203.toInt64) hx hb dX6_trio_206 rfl ?_
                      refine lv_lmul hx hb dX6_trio_207 ?_
                      refine lv_aload_n hx hb dX6_trio_208 rfl (lv_at hl 0 rfl) ?_
                      refine lv_iload_n hx hb dX6_trio_209 rfl (lv_at hl 1 rfl) ?_
                      refine lv_iload_n hx hb dX6_trio_210 rfl (lv_at hl 2 rfl) ?_
                      refine M_calli (As := [.int p1, .int p2]) (rest := [.long ((v90.toInt64 * t0_198.toInt64) * r203.toInt64), .long (0 : Int64)]) 2 C h (k_X6_behind l g σ p1 p2 (by first | assumption | omega) (by first | assumption | omega)) (lw_V q2014 q2016 qs117 q152 q2017) rfl rfl (by decide +kernel) ⟨Nat.le_of_ble_eq_true rfl, Nat.le_of_ble_eq_true rfl⟩ rfl hl.1 rfl (Nat.le_of_ble_eq_true rfl) ⟨Nat.le_of_ble_eq_true rfl, Nat.le_of_ble_eq_true rfl⟩ dX6_trio_211 (fun r211 σ211 H locs eσ211 er211 hE211 h => ?_)
                      rw [eσ211] at h
                      clear hE211
                      clear eσ211
                      refine lv_i2l (v := r211.toInt64) hx hb dX6_trio_214 rfl ?_
                      refine lv_lmul hx hb dX6_trio_215 ?_
                      refine lv_ladd hx hb dX6_trio_216 ?_
                      refine lv_topl (fun v217 ev217 => ?_)
                      refine lv_lstore (lv' := [(10, .long v217), (0, .ref (g.2.1 99)), (1, .int p1), (2, .int p2), (3, .int p3), (4, .int p4), (6, .int v109), (7, .int v131), (8, .long v155)]) hx hb dX6_trio_217 hl (by decide) rfl (fun ls hl => ?_)
                      exact j219 _ _ _ _ (by have et0_198 := et0_198.symm; subst et0_198; have er203 := er203.symm; subst er203; have er211 := er211.symm; subst er211; have ev217 := ev217.symm; subst ev217; exact ((if_neg c162).trans rfl)) h (lv_sub hl [1, 2, 3, 4, 5, 6, 7, 8, 0] rfl)
                    refine lv_icmp_ne (tgt := 185) hx hb dX6_trio_173 (by decide) (fun c173 => ?_) (fun c173 => ?_)
                    · have i173 := c_ne c173
                      refine lv_aload_n hx hb dX6_trio_185 rfl (lv_at hl 5 rfl) ?_
                      refine lv_iload_n hx hb dX6_trio_186 rfl (lv_at hl 7 rfl) ?_
                      refine lv_iload_n hx hb dX6_trio_187 rfl (lv_at hl 8 rfl) ?_
                      refine M_calli (As := [.int p2, .int p3]) (rest := [.long v90.toInt64, .long (0 : Int64)]) 2 C h (k_X6_behind l g σ p2 p3 (by first | assumption | omega) (by first | assumption | omega)) (lw_V q2014 q2016 qs117 q152 q2017) rfl rfl (by decide +kernel) ⟨Nat.le_of_ble_eq_true rfl, Nat.le_of_ble_eq_true rfl⟩ rfl hl.1 rfl (Nat.le_of_ble_eq_true rfl) ⟨Nat.le_of_ble_eq_true rfl, Nat.le_of_ble_eq_true rfl⟩ dX6_trio_188 (fun r188 σ188 H locs eσ188 er188 hE188 h => ?_)
                      rw [eσ188] at h
                      clear hE188
                      clear eσ188
                      refine lv_aload_n hx hb dX6_trio_191 rfl (lv_at hl 5 rfl) ?_
                      refine lv_iload_n hx hb dX6_trio_192 rfl (lv_at hl 7 rfl) ?_
                      refine lv_iload_n hx hb dX6_trio_193 rfl (lv_at hl 8 rfl) ?_
                      refine M_calli (As := [.int p2, .int p3]) (rest := [.int r188, .long v90.toInt64, .long (0 : Int64)]) 2 C h (k_X6_first l g σ p2 p3 (by first | assumption | omega) (by first | assumption | omega)) (lw_V q2010 q2012 qs116 q152 q2013) rfl rfl (by decide +kernel) ⟨Nat.le_of_ble_eq_true rfl, Nat.le_of_ble_eq_true rfl⟩ rfl hl.1 rfl (Nat.le_of_ble_eq_true rfl) ⟨Nat.le_of_ble_eq_true rfl, Nat.le_of_ble_eq_true rfl⟩ dX6_trio_194 (fun r194 σ194 H locs eσ194 er194 hE194 h => ?_)
                      rw [eσ194] at h
                      clear hE194
                      clear eσ194
                      refine lv_isub hx hb dX6_trio_197 ?_
                      exact j198 _ _ _ _ (by have er188 := er188.symm; subst er188; have er194 := er194.symm; subst er194; exact ((if_neg c173).trans rfl)) h (lv_sub hl [5, 6, 7, 8, 9, 3, 2, 1] rfl)
                    · have i173 := c_eq c173
                      refine lv_aload_n hx hb dX6_trio_176 rfl (lv_at hl 5 rfl) ?_
                      refine lv_iload_n hx hb dX6_trio_177 rfl (lv_at hl 7 rfl) ?_
                      refine lv_iload_n hx hb dX6_trio_178 rfl (lv_at hl 8 rfl) ?_
                      refine M_calli (As := [.int p2, .int p3]) (rest := [.long v90.toInt64, .long (0 : Int64)]) 2 C h (k_X6_first l g σ p2 p3 (by first | assumption | omega) (by first | assumption | omega)) (lw_V q2010 q2012 qs116 q152 q2013) rfl rfl (by decide +kernel) ⟨Nat.le_of_ble_eq_true rfl, Nat.le_of_ble_eq_true rfl⟩ rfl hl.1 rfl (Nat.le_of_ble_eq_true rfl) ⟨Nat.le_of_ble_eq_true rfl, Nat.le_of_ble_eq_true rfl⟩ dX6_trio_179 (fun r179 σ179 H locs eσ179 er179 hE179 h => ?_)
                      rw [eσ179] at h
                      clear hE179
                      clear eσ179
                      refine lv_goto (tgt := 198) hx hb dX6_trio_182 (by decide) ?_
                      exact j198 _ _ _ _ (by have er179 := er179.symm; subst er179; exact ((if_pos c173).trans rfl)) h (lv_sub hl [5, 6, 7, 8, 9, 3, 2, 1] rfl)
                · have i68 := c_ne c68
                  refine lv_aload_n hx hb dX6_trio_71 rfl (lv_at hl 0 rfl) ?_
                  refine lv_bipush (v := 6) hx hb dX6_trio_72 (by decide) ?_
                  refine M_callz (As := [.int (6 : Int32)]) (rest := []) 1 C h (k_X6_is l g σ (6 : Int32)) (lw_V q1663 q1665 qs65 q152 q1666) rfl rfl (by decide +kernel) ⟨Nat.le_of_ble_eq_true rfl, Nat.le_of_ble_eq_true rfl⟩ rfl hl.1 rfl (Nat.le_of_ble_eq_true rfl) ⟨Nat.le_of_ble_eq_true rfl, Nat.le_of_ble_eq_true rfl⟩ dX6_trio_74 (fun r74 σ74 H locs eσ74 er74 br74 hE74 h => ?_)
                  clear hE74
                  have hNEW : (0 ≤ (ga σ74 0 (0 : Int32)).toInt ∧ (ga σ74 0 (0 : Int32)).toInt ≤ 6) ∧ (∀ x : Int32, (0 ≤ x.toInt ∧ x.toInt ≤ 5) → 0 ≤ (f_X6_insists σ74 x).toInt ∧ (f_X6_insists σ74 x).toInt ≤ 16) ∧ ((ga σ74 0 (0 : Int32)).toInt = (ga σ 0 (0 : Int32)).toInt) := ⟨(by rw [eσ74, is_s] <;> exact hp), (by rw [eσ74, is_s] <;> exact hIn), (by rw [eσ74, is_s] <;> exact hpq)⟩
                  obtain ⟨hp, hIn, hpq⟩ := hNEW
                  have he : f_X6_trio σ p1 p2 p3 p4 = (σ74, r74) := (by have er3 := er3.symm; subst er3; have er12 := er12.symm; subst er12; have er21 := er21.symm; subst er21; have er47 := er47.symm; subst er47; have er56 := er56.symm; subst er56; have er65 := er65.symm; subst er65; have eσ74 := eσ74.symm; subst eσ74; have er74 := er74.symm; subst er74; exact ((if_neg c6).trans ((if_neg c15).trans ((if_neg c24).trans ((if_neg c29).trans ((if_pos c35).trans ((if_pos c50).trans ((if_pos c59).trans ((if_neg c68).trans rfl)))))))))
                  exact M_retz C h hr hlocks (congrArg Prod.fst he) (congrArg Prod.snd he) br74 hpq dX6_trio_77
          · have i35 := c_nle c35
            refine lv_aload_n hx hb dX6_trio_38 rfl (lv_at hl 0 rfl) ?_
            refine lv_iconst (v := 1) hx hb dX6_trio_39 (by decide) ?_
            refine M_callz (As := [.int (1 : Int32)]) (rest := []) 1 C h (k_X6_is l g σ (1 : Int32)) (lw_V q1663 q1665 qs65 q152 q1666) rfl rfl (by decide +kernel) ⟨Nat.le_of_ble_eq_true rfl, Nat.le_of_ble_eq_true rfl⟩ rfl hl.1 rfl (Nat.le_of_ble_eq_true rfl) ⟨Nat.le_of_ble_eq_true rfl, Nat.le_of_ble_eq_true rfl⟩ dX6_trio_40 (fun r40 σ40 H locs eσ40 er40 br40 hE40 h => ?_)
            clear hE40
            have hNEW : (0 ≤ (ga σ40 0 (0 : Int32)).toInt ∧ (ga σ40 0 (0 : Int32)).toInt ≤ 6) ∧ (∀ x : Int32, (0 ≤ x.toInt ∧ x.toInt ≤ 5) → 0 ≤ (f_X6_insists σ40 x).toInt ∧ (f_X6_insists σ40 x).toInt ≤ 16) ∧ ((ga σ40 0 (0 : Int32)).toInt = (ga σ 0 (0 : Int32)).toInt) := ⟨(by rw [eσ40, is_s] <;> exact hp), (by rw [eσ40, is_s] <;> exact hIn), (by rw [eσ40, is_s] <;> exact hpq)⟩
            obtain ⟨hp, hIn, hpq⟩ := hNEW
            have he : f_X6_trio σ p1 p2 p3 p4 = (σ40, r40) := (by have er3 := er3.symm; subst er3; have er12 := er12.symm; subst er12; have er21 := er21.symm; subst er21; have eσ40 := eσ40.symm; subst eσ40; have er40 := er40.symm; subst er40; exact ((if_neg c6).trans ((if_neg c15).trans ((if_neg c24).trans ((if_neg c29).trans ((if_neg c35).trans rfl))))))
            exact M_retz C h hr hlocks (congrArg Prod.fst he) (congrArg Prod.snd he) br40 hpq dX6_trio_43
def f_X6_simplify_L6 : Nat → Int32 → MS → Int32 × MS
  | 0, x1_6, σL6 => (x1_6, σL6)
  | n + 1, x1_6, σL6 => if (36 : Int32) ≤ x1_6 then ((x1_6, σL6)) else ((let σ18 := sa σL6 26 x1_6 (0 : Int32); f_X6_simplify_L6 n (x1_6 + (1 : Int32)) σ18))
def f_X6_simplify_L25 : Nat → MS → MS
  | 0, σL25 => σL25
  | n + 1, σL25 => if (ga σL25 0 (0 : Int32)) ≤ (0 : Int32) then (σL25) else ((let r39 := (f_X6_leastLeft σL25); if (0 : Int32) ≤ (ga σL25 25 r39) then (σL25) else ((let r47 := (f_X6_leastLeft σL25); let r52 := (f_X6_mostLeft σL25); let v72 := (jmin (-(ga σL25 25 r47)) (ga σL25 25 r52)); let σ87 := sa σL25 26 (((6 : Int32) * r47) + r52) ((ga σL25 26 (((6 : Int32) * r47) + r52)) + v72); let σ97 := sa σ87 25 r47 ((ga σ87 25 r47) + v72); let σ107 := sa σ97 25 r52 ((ga σ97 25 r52) - v72); f_X6_simplify_L25 n σ107))))
def f_X6_simplify_L146 : Nat → Int32 → MS → Int32 × MS
  | 0, x1_146, σL146 => (x1_146, σL146)
  | n + 1, x1_146, σL146 => if (36 : Int32) ≤ x1_146 then ((x1_146, σL146)) else ((let σ166 := sa σL146 0 ((92 : Int32) + x1_146) (ga σL146 26 x1_146); f_X6_simplify_L146 n (x1_146 + (1 : Int32)) σ166))
def f_X6_simplify_L113 (σ : MS) : Nat → Int32 → MS × Int32
  | 0, x1_113 => (m00, 0)
  | n + 1, x1_113 => if (36 : Int32) ≤ x1_113 then ((let zL146 := f_X6_simplify_L146 (37) (0 : Int32) σ; let x1_146e := zL146.1; let σL146e := zL146.2; (let r175 := (f_X6_tiesNow σL146e); let z178 := (f_X6_gives σL146e r175); let σ178 := z178.1; let r178 := z178.2; (σ178, r178)))) else (if (ga σ 26 x1_113) ≤ (999999 : Int32) then (f_X6_simplify_L113 σ n (x1_113 + (1 : Int32))) else ((let z134 := (f_X6_refuse σ (7 : Int32)); let σ134 := z134.1; let r134 := z134.2; (σ134, r134))))
def f_X6_simplify (σ : MS) : MS × Int32 := (let σ1 := (f_X6_laysBalances σ); (let zL6 := f_X6_simplify_L6 (37) (0 : Int32) σ1; let x1_6e := zL6.1; let σL6e := zL6.2; (let zL25 := f_X6_simplify_L25 (7) σL6e; let σL25e := zL25; f_X6_simplify_L113 σL25e (37) (0 : Int32))))
set_option maxHeartbeats 4000000 in
set_option maxRecDepth 100000 in
theorem k_X6_simplify (l : Launch) (g : GE) (σ : MS) (hp : 0 ≤ (ga σ 0 (0 : Int32)).toInt ∧ (ga σ 0 (0 : Int32)).toInt ≤ 6) (hSL : SL σ 0) : Met l yX6_simplify (ws_ yX6_simplify cX6_simplify 4 (some .int)) ({ frames := 3, cells := 0, slots := 0, locals := 65 } : Room) (mPc g σ []) (mQi g (f_X6_simplify σ).1 (f_X6_simplify σ).2 (fun u r => ((ga u 0 (0 : Int32)).toInt = (ga σ 0 (0 : Int32)).toInt) ∧ (MFr σ u))) 0 0 (mA g) := by
  refine met_M (by decide) rfl (Nat.le_of_ble_eq_true rfl) ?_
  intro p e s m args below meth c C hr hlocks h ls hl
  have hx := C.1.1
  have hb := C.1.2.1
  have hml := C.1.2.2.1
  have hown := C.1.2.2.2.1
  have hts := C.1.2.2.2.2
  have hl : lv_has ls 4 [(0, .ref (g.2.1 99))] := hl
  have hpq : (ga σ 0 (0 : Int32)).toInt = (ga σ 0 (0 : Int32)).toInt := rfl
  have hLF : MFr σ σ := Fr.rf
  have zl0 : (0 : Int32).toInt = 0 := rfl
  have zl1 : (1 : Int32).toInt = 1 := rfl
  have zl6 : (6 : Int32).toInt = 6 := rfl
  have zl7 : (7 : Int32).toInt = 7 := rfl
  have zl36 : (36 : Int32).toInt = 36 := rfl
  have zl92 : (92 : Int32).toInt = 92 := rfl
  have zl999999 : (999999 : Int32).toInt = 999999 := rfl
  refine lv_aload_n hx hb dX6_simplify_0 rfl (lv_at hl 0 rfl) ?_
  refine M_callv (As := []) (rest := []) 0 C h (k_X6_laysBalances l g σ (by first | assumption | omega)) (lw_V q2093 q2095 qs123 q152 q2096) rfl rfl (by decide +kernel) ⟨Nat.le_of_ble_eq_true rfl, Nat.le_of_ble_eq_true rfl⟩ rfl hl.1 rfl (Nat.le_of_ble_eq_true rfl) ⟨Nat.le_of_ble_eq_true rfl, Nat.le_of_ble_eq_true rfl⟩ dX6_simplify_1 (fun σ1 H locs eσ1 hE1 h => ?_)
  have hE1 : ((ga σ1 0 (0 : Int32)).toInt = (ga σ 0 (0 : Int32)).toInt) ∧ (∀ j : Int32, ga σ1 0 j = ga σ 0 j) ∧ (MFr σ σ1) ∧ (∀ q : Int32, 0 ≤ q.toInt → q.toInt < (ga σ 0 (0 : Int32)).toInt → ga σ1 25 q = f_X6_balanceOf σ q) := hE1
  obtain ⟨hpq_1, hA0_1, hLF_1, lb_1⟩ := hE1
  have hNEW : (0 ≤ (ga σ1 0 (0 : Int32)).toInt ∧ (ga σ1 0 (0 : Int32)).toInt ≤ 6) ∧ ((ga σ1 0 (0 : Int32)).toInt = (ga σ 0 (0 : Int32)).toInt) ∧ (MFr σ σ1) := ⟨(by simp only [hA0_1] <;> exact hp), (by simp only [hA0_1] <;> exact hpq), (Fr.tr hLF hLF_1)⟩
  obtain ⟨hp, hpq, hLF⟩ := hNEW
  have hSB : (∀ q, q < (ga σ 0 (0 : Int32)).toInt.toNat → -20000000 ≤ lf σ1 25 q ∧ lf σ1 25 q ≤ 20000000) ∧ isum (lf σ1 25) (ga σ 0 (0 : Int32)).toInt.toNat = 0 := (lays_sum (N := (ga σ 0 (0 : Int32)).toInt.toNat) (by omega) (by omega) hSL lb_1)
  refine lv_iconst (v := 0) hx hb dX6_simplify_4 (by decide) ?_
  refine lv_istore_n (lv' := [(1, .int (0 : Int32)), (0, .ref (g.2.1 99))]) hx hb dX6_simplify_5 rfl hl (by decide) rfl (fun ls hl => ?_)
  have hL6 : ∀ (n : Nat) (x1_6 : Int32) (σL6 : MS) (H : Heap) (locs : List Loc) (ls : Array Slot), (0 ≤ (ga σL6 0 (0 : Int32)).toInt ∧ (ga σL6 0 (0 : Int32)).toInt ≤ 6) → ((ga σL6 0 (0 : Int32)).toInt = (ga σ 0 (0 : Int32)).toInt) → (MFr σ σL6) → ((∀ q, q < (ga σ 0 (0 : Int32)).toInt.toNat → -20000000 ≤ lf σL6 25 q ∧ lf σL6 25 q ≤ 20000000) ∧ isum (lf σL6 25) (ga σ 0 (0 : Int32)).toInt.toNat = 0) → (0 ≤ x1_6.toInt ∧ x1_6.toInt ≤ 36) → (36 - x1_6.toInt).toNat < n → MH g σL6 s H locs → lv_has ls 4 [(0, .ref (g.2.1 99)), (1, .int x1_6)] → (∀ (x1_6' : Int32) (σL6' : MS) (H : Heap) (locs : List Loc) (ls : Array Slot), f_X6_simplify_L6 n x1_6 σL6 = (x1_6', σL6') → (0 ≤ (ga σL6' 0 (0 : Int32)).toInt ∧ (ga σL6' 0 (0 : Int32)).toInt ≤ 6) → ((ga σL6' 0 (0 : Int32)).toInt = (ga σ 0 (0 : Int32)).toInt) → (MFr σ σL6') → ((∀ q, q < (ga σ 0 (0 : Int32)).toInt.toNat → -20000000 ≤ lf σL6' 25 q ∧ lf σL6' 25 q ≤ 20000000) ∧ isum (lf σL6' 25) (ga σ 0 (0 : Int32)).toInt.toNat = 0) → (0 ≤ x1_6'.toInt ∧ x1_6'.toInt ≤ 36) → MH g σL6' s H locs → lv_has ls 4 [(0, .ref (g.2.1 99))] → W p l e ({ frames := 3, cells := 0, slots := 0, locals := 65 } : Room) s m args below meth c H locs 0 0 (MQ below (mQi g (f_X6_simplify σ).1 (f_X6_simplify σ).2 (fun u r => ((ga u 0 (0 : Int32)).toInt = (ga σ 0 (0 : Int32)).toInt) ∧ (MFr σ u))) args s 0 0 (mA g)) (F0 m 25 ls [])) → W p l e ({ frames := 3, cells := 0, slots := 0, locals := 65 } : Room) s m args below meth c H locs 0 0 (MQ below (mQi g (f_X6_simplify σ).1 (f_X6_simplify σ).2 (fun u r => ((ga u 0 (0 : Int32)).toInt = (ga σ 0 (0 : Int32)).toInt) ∧ (MFr σ u))) args s 0 0 (mA g)) (F0 m 6 ls []) := by
    intro n
    induction n with
    | zero =>
      intro x1_6 σL6 H locs ls hp hpq hLF hSB _ hm; exact absurd hm (Nat.not_lt_zero _)
    | succ n ih =>
      intro x1_6 σL6 H locs ls hp hpq hLF hSB hI6 hm h hl kk
      refine lv_iload_n hx hb dX6_simplify_6 rfl (lv_at hl 1 rfl) ?_
      refine lv_bipush (v := 36) hx hb dX6_simplify_7 (by decide) ?_
      refine lv_icmp_ge (tgt := 25) hx hb dX6_simplify_9 (by decide) (fun c9 => ?_) (fun c9 => ?_)
      · have i9 := c_le c9
        exact kk x1_6 σL6 _ _ _ (show f_X6_simplify_L6 (n + 1) x1_6 σL6 = (x1_6, σL6) from (by exact ((if_pos c9).trans rfl))) hp hpq hLF hSB (by first | assumption | omega) h (lv_sub hl [0] rfl)
      · have i9 := c_nle c9
        refine lv_aload_n hx hb dX6_simplify_12 rfl (lv_at hl 0 rfl) ?_
        refine Mg_26 C h dX6_simplify_13 ?_
        refine lv_iload_n hx hb dX6_simplify_16 rfl (lv_at hl 1 rfl) ?_
        refine lv_iconst (v := 0) hx hb dX6_simplify_17 (by decide) ?_
        refine Ms_26 C h (ix_of (rfl : x1_6.toInt = x1_6.toInt) (by omega)) dX6_simplify_18 (fun σ18 H locs eσ18 h => ?_)
        have hNEW : (0 ≤ (ga σ18 0 (0 : Int32)).toInt ∧ (ga σ18 0 (0 : Int32)).toInt ≤ 6) ∧ ((ga σ18 0 (0 : Int32)).toInt = (ga σ 0 (0 : Int32)).toInt) ∧ (MFr σ σ18) ∧ ((∀ q, q < (ga σ 0 (0 : Int32)).toInt.toNat → -20000000 ≤ lf σ18 25 q ∧ lf σ18 25 q ≤ 20000000) ∧ isum (lf σ18 25) (ga σ 0 (0 : Int32)).toInt.toNat = 0) := ⟨(by rw [eσ18] <;> exact hp), (by rw [eσ18] <;> exact hpq), (by rw [eσ18]; exact (Fr_xa (by decide) (by decide) hLF)), (by rw [eσ18] <;> exact hSB)⟩
        obtain ⟨hp, hpq, hLF, hSB⟩ := hNEW
        refine lv_iinc (v := (x1_6 + (1 : Int32))) (lv' := [(1, .int (x1_6 + (1 : Int32))), (0, .ref (g.2.1 99))]) hx hb dX6_simplify_19 hl (k := 1) rfl rfl (by decide) rfl (fun ls hl => ?_)
        refine lv_goto (tgt := 6) hx hb dX6_simplify_22 (by decide) ?_
        have tt1 : (x1_6 + (1 : Int32)).toInt = (x1_6.toInt + (1)) := (i_add (rfl : x1_6.toInt = x1_6.toInt) zl1 (by omega))
        exact ih (x1_6 + (1 : Int32)) σ18 _ _ _ hp hpq hLF hSB (by first | assumption | omega) (by omega) h (lv_sub hl [1, 0] rfl) (fun x1_6' σL6' H locs ls en hp hpq hLF hSB hI h hl => kk x1_6' σL6' H locs ls ((show f_X6_simplify_L6 (n + 1) x1_6 σL6 = f_X6_simplify_L6 n (x1_6 + (1 : Int32)) σ18 from (by have eσ18 := eσ18.symm; subst eσ18; exact ((if_neg c9).trans rfl))).trans en) hp hpq hLF hSB hI h hl)
  refine hL6 (37) (0 : Int32) σ1 _ _ _ hp hpq hLF hSB (by first | assumption | omega) (by omega) h (lv_sub hl [1, 0] rfl) (fun x1_6e σL6e H locs ls eL6 hp hpq hLF hSB hI6 h hl => ?_)
  have ex1_6e : x1_6e = (f_X6_simplify_L6 (37) (0 : Int32) σ1).1 := by rw [eL6]
  have eσL6e : σL6e = (f_X6_simplify_L6 (37) (0 : Int32) σ1).2 := by rw [eL6]
  have hL25 : ∀ (n : Nat) (σL25 : MS) (H : Heap) (locs : List Loc) (ls : Array Slot), (0 ≤ (ga σL25 0 (0 : Int32)).toInt ∧ (ga σL25 0 (0 : Int32)).toInt ≤ 6) → ((ga σL25 0 (0 : Int32)).toInt = (ga σ 0 (0 : Int32)).toInt) → (MFr σ σL25) → ((∀ q, q < (ga σ 0 (0 : Int32)).toInt.toNat → -20000000 ≤ lf σL25 25 q ∧ lf σL25 25 q ≤ 20000000) ∧ isum (lf σL25 25) (ga σ 0 (0 : Int32)).toInt.toNat = 0) → (True) → nzc (lf σL25 25) (ga σ 0 (0 : Int32)).toInt.toNat < n → MH g σL25 s H locs → lv_has ls 4 [(0, .ref (g.2.1 99))] → (∀ (σL25' : MS) (H : Heap) (locs : List Loc) (ls : Array Slot), f_X6_simplify_L25 n σL25 = σL25' → (0 ≤ (ga σL25' 0 (0 : Int32)).toInt ∧ (ga σL25' 0 (0 : Int32)).toInt ≤ 6) → ((ga σL25' 0 (0 : Int32)).toInt = (ga σ 0 (0 : Int32)).toInt) → (MFr σ σL25') → ((∀ q, q < (ga σ 0 (0 : Int32)).toInt.toNat → -20000000 ≤ lf σL25' 25 q ∧ lf σL25' 25 q ≤ 20000000) ∧ isum (lf σL25' 25) (ga σ 0 (0 : Int32)).toInt.toNat = 0) → (True) → MH g σL25' s H locs → lv_has ls 4 [(0, .ref (g.2.1 99))] → W p l e ({ frames := 3, cells := 0, slots := 0, locals := 65 } : Room) s m args below meth c H locs 0 0 (MQ below (mQi g (f_X6_simplify σ).1 (f_X6_simplify σ).2 (fun u r => ((ga u 0 (0 : Int32)).toInt = (ga σ 0 (0 : Int32)).toInt) ∧ (MFr σ u))) args s 0 0 (mA g)) (F0 m 111 ls [])) → W p l e ({ frames := 3, cells := 0, slots := 0, locals := 65 } : Room) s m args below meth c H locs 0 0 (MQ below (mQi g (f_X6_simplify σ).1 (f_X6_simplify σ).2 (fun u r => ((ga u 0 (0 : Int32)).toInt = (ga σ 0 (0 : Int32)).toInt) ∧ (MFr σ u))) args s 0 0 (mA g)) (F0 m 25 ls []) := by
    intro n
    induction n with
    | zero =>
      intro σL25 H locs ls hp hpq hLF hSB _ hm; exact absurd hm (Nat.not_lt_zero _)
    | succ n ih =>
      intro σL25 H locs ls hp hpq hLF hSB hI25 hm h hl kk
      have hSBs := hSB
      refine lv_aload_n hx hb dX6_simplify_25 rfl (lv_at hl 0 rfl) ?_
      refine Mg_0 C h dX6_simplify_26 ?_
      refine lv_iconst (v := 0) hx hb dX6_simplify_29 (by decide) ?_
      refine Ml_0 C h (ix_of zl0 (by omega)) dX6_simplify_30 ?_
      refine lv_if_le (tgt := 111) hx hb dX6_simplify_31 (by decide) (fun c31 => ?_) (fun c31 => ?_)
      · have i31 := c_le c31
        exact kk σL25 _ _ _ (show f_X6_simplify_L25 (n + 1) σL25 = σL25 from (by exact ((if_pos c31).trans rfl))) hp hpq hLF hSB trivial h hl
      · have i31 := c_nle c31
        refine lv_aload_n hx hb dX6_simplify_34 rfl (lv_at hl 0 rfl) ?_
        refine Mg_25 C h dX6_simplify_35 ?_
        refine lv_aload_n hx hb dX6_simplify_38 rfl (lv_at hl 0 rfl) ?_
        refine M_calli (As := []) (rest := [.ref (g.2.1 25)]) 0 C h (k_X6_leastLeft l g σL25 (by first | assumption | omega)) (lw_V q2097 q2099 qs124 q152 q2100) rfl rfl (by decide +kernel) ⟨Nat.le_of_ble_eq_true rfl, Nat.le_of_ble_eq_true rfl⟩ rfl hl.1 rfl (Nat.le_of_ble_eq_true rfl) ⟨Nat.le_of_ble_eq_true rfl, Nat.le_of_ble_eq_true rfl⟩ dX6_simplify_39 (fun r39 σ39 H locs eσ39 er39 hE39 h => ?_)
        rw [eσ39] at h
        rw [eσ39] at hE39
        have hE39 : (-1 ≤ r39.toInt ∧ r39.toInt < (ga σL25 0 (0 : Int32)).toInt ∧ (0 < (ga σL25 0 (0 : Int32)).toInt → 0 ≤ r39.toInt)) := hE39
        have brng_39 := hE39
        clear eσ39
        refine Ml_25 C h (ix_of (rfl : r39.toInt = r39.toInt) (by omega)) dX6_simplify_42 ?_
        refine lv_if_ge (tgt := 111) hx hb dX6_simplify_43 (by decide) (fun c43 => ?_) (fun c43 => ?_)
        · have i43 := c_le c43
          exact kk σL25 _ _ _ (show f_X6_simplify_L25 (n + 1) σL25 = σL25 from (by have er39 := er39.symm; subst er39; exact ((if_neg c31).trans ((if_pos c43).trans rfl)))) hp hpq hLF hSB trivial h hl
        · have i43 := c_nle c43
          refine lv_aload_n hx hb dX6_simplify_46 rfl (lv_at hl 0 rfl) ?_
          refine M_calli (As := []) (rest := []) 0 C h (k_X6_leastLeft l g σL25 (by first | assumption | omega)) (lw_V q2097 q2099 qs124 q152 q2100) rfl rfl (by decide +kernel) ⟨Nat.le_of_ble_eq_true rfl, Nat.le_of_ble_eq_true rfl⟩ rfl hl.1 rfl (Nat.le_of_ble_eq_true rfl) ⟨Nat.le_of_ble_eq_true rfl, Nat.le_of_ble_eq_true rfl⟩ dX6_simplify_47 (fun r47 σ47 H locs eσ47 er47 hE47 h => ?_)
          rw [eσ47] at h
          rw [eσ47] at hE47
          have hE47 : (-1 ≤ r47.toInt ∧ r47.toInt < (ga σL25 0 (0 : Int32)).toInt ∧ (0 < (ga σL25 0 (0 : Int32)).toInt → 0 ≤ r47.toInt)) := hE47
          have brng_47 := hE47
          clear eσ47
          refine lv_istore_n (lv' := [(1, .int r47), (0, .ref (g.2.1 99))]) hx hb dX6_simplify_50 rfl hl (by decide) rfl (fun ls hl => ?_)
          refine lv_aload_n hx hb dX6_simplify_51 rfl (lv_at hl 1 rfl) ?_
          refine M_calli (As := []) (rest := []) 0 C h (k_X6_mostLeft l g σL25 (by first | assumption | omega)) (lw_V q2101 q2103 qs125 q152 q2104) rfl rfl (by decide +kernel) ⟨Nat.le_of_ble_eq_true rfl, Nat.le_of_ble_eq_true rfl⟩ rfl hl.1 rfl (Nat.le_of_ble_eq_true rfl) ⟨Nat.le_of_ble_eq_true rfl, Nat.le_of_ble_eq_true rfl⟩ dX6_simplify_52 (fun r52 σ52 H locs eσ52 er52 hE52 h => ?_)
          rw [eσ52] at h
          rw [eσ52] at hE52
          have hE52 : (-1 ≤ r52.toInt ∧ r52.toInt < (ga σL25 0 (0 : Int32)).toInt ∧ (0 < (ga σL25 0 (0 : Int32)).toInt → 0 ≤ r52.toInt)) ∧ (∀ q : Int32, 0 ≤ q.toInt → q.toInt < (ga σL25 0 (0 : Int32)).toInt → (ga σL25 25 q).toInt ≤ (ga σL25 25 r52).toInt) := hE52
          obtain ⟨brng_52, mx_52⟩ := hE52
          clear eσ52
          refine lv_istore_n (lv' := [(2, .int r52), (1, .int r47), (0, .ref (g.2.1 99))]) hx hb dX6_simplify_55 rfl hl (by decide) rfl (fun ls hl => ?_)
          refine lv_aload_n hx hb dX6_simplify_56 rfl (lv_at hl 2 rfl) ?_
          refine Mg_25 C h dX6_simplify_57 ?_
          refine lv_iload_n hx hb dX6_simplify_60 rfl (lv_at hl 1 rfl) ?_
          refine Ml_25 C h (ix_of (rfl : r47.toInt = r47.toInt) (by omega)) dX6_simplify_61 ?_
          refine lv_ineg hx hb dX6_simplify_62 ?_
          refine lv_aload_n hx hb dX6_simplify_63 rfl (lv_at hl 2 rfl) ?_
          refine Mg_25 C h dX6_simplify_64 ?_
          refine lv_iload_n hx hb dX6_simplify_67 rfl (lv_at hl 0 rfl) ?_
          refine Ml_25 C h (ix_of (rfl : r52.toInt = r52.toInt) (by omega)) dX6_simplify_68 ?_
          refine va_mmin hx hb (hml.trans hl.1.symm) hown (hts _ q1722) (hts _ q1261) (hts _ q164) (hts _ q1262) (Nat.le_of_ble_eq_true rfl) (Nat.le_of_ble_eq_true rfl) (Nat.le_of_ble_eq_true rfl) (Nat.le_of_ble_eq_true rfl) dX6_simplify_69 ?_
          refine lv_topi (fun v72 ev72 => ?_)
          refine lv_istore_n (lv' := [(3, .int v72), (2, .int r52), (1, .int r47), (0, .ref (g.2.1 99))]) hx hb dX6_simplify_72 rfl hl (by decide) rfl (fun ls hl => ?_)
          refine lv_aload_n hx hb dX6_simplify_73 rfl (lv_at hl 3 rfl) ?_
          refine Mg_26 C h dX6_simplify_74 ?_
          refine lv_bipush (v := 6) hx hb dX6_simplify_77 (by decide) ?_
          refine lv_iload_n hx hb dX6_simplify_79 rfl (lv_at hl 2 rfl) ?_
          refine lv_imul hx hb dX6_simplify_80 ?_
          refine lv_iload_n hx hb dX6_simplify_81 rfl (lv_at hl 1 rfl) ?_
          refine lv_iadd hx hb dX6_simplify_82 ?_
          refine lv_dup2_11 hx hb dX6_simplify_83 rfl rfl ?_
          refine Ml_26 C h (ix_of (i_add (i_mul zl6 (rfl : r47.toInt = r47.toInt) (by omega)) (rfl : r52.toInt = r52.toInt) (by omega)) (by omega)) dX6_simplify_84 ?_
          refine lv_iload_n hx hb dX6_simplify_85 rfl (lv_at hl 0 rfl) ?_
          refine lv_iadd hx hb dX6_simplify_86 ?_
          refine Ms_26 C h (ix_of (i_add (i_mul zl6 (rfl : r47.toInt = r47.toInt) (by omega)) (rfl : r52.toInt = r52.toInt) (by omega)) (by omega)) dX6_simplify_87 (fun σ87 H locs eσ87 h => ?_)
          have hNEW : (0 ≤ (ga σ87 0 (0 : Int32)).toInt ∧ (ga σ87 0 (0 : Int32)).toInt ≤ 6) ∧ ((ga σ87 0 (0 : Int32)).toInt = (ga σ 0 (0 : Int32)).toInt) ∧ (MFr σ σ87) ∧ ((∀ q, q < (ga σ 0 (0 : Int32)).toInt.toNat → -20000000 ≤ lf σ87 25 q ∧ lf σ87 25 q ≤ 20000000) ∧ isum (lf σ87 25) (ga σ 0 (0 : Int32)).toInt.toNat = 0) := ⟨(by rw [eσ87] <;> exact hp), (by rw [eσ87] <;> exact hpq), (by rw [eσ87]; exact (Fr_xa (by decide) (by decide) hLF)), (by rw [eσ87] <;> exact hSB)⟩
          obtain ⟨hp, hpq, hLF, hSB⟩ := hNEW
          refine lv_aload_n hx hb dX6_simplify_88 rfl (lv_at hl 3 rfl) ?_
          refine Mg_25 C h dX6_simplify_89 ?_
          refine lv_iload_n hx hb dX6_simplify_92 rfl (lv_at hl 2 rfl) ?_
          refine lv_dup2_11 hx hb dX6_simplify_93 rfl rfl ?_
          refine Ml_25 C h (ix_of (rfl : r47.toInt = r47.toInt) (by omega)) dX6_simplify_94 ?_
          refine lv_iload_n hx hb dX6_simplify_95 rfl (lv_at hl 0 rfl) ?_
          refine lv_iadd hx hb dX6_simplify_96 ?_
          refine Ms_25 C h (ix_of (rfl : r47.toInt = r47.toInt) (by omega)) dX6_simplify_97 (fun σ97 H locs eσ97 h => ?_)
          have hNEW : (0 ≤ (ga σ97 0 (0 : Int32)).toInt ∧ (ga σ97 0 (0 : Int32)).toInt ≤ 6) ∧ ((ga σ97 0 (0 : Int32)).toInt = (ga σ 0 (0 : Int32)).toInt) ∧ (MFr σ σ97) := ⟨(by rw [eσ97] <;> exact hp), (by rw [eσ97] <;> exact hpq), (by rw [eσ97]; exact (Fr_xa (by decide) (by decide) hLF))⟩
          clear hp hpq hLF
          obtain ⟨hp, hpq, hLF⟩ := hNEW
          refine lv_aload_n hx hb dX6_simplify_98 rfl (lv_at hl 3 rfl) ?_
          refine Mg_25 C h dX6_simplify_99 ?_
          refine lv_iload_n hx hb dX6_simplify_102 rfl (lv_at hl 1 rfl) ?_
          refine lv_dup2_11 hx hb dX6_simplify_103 rfl rfl ?_
          refine Ml_25 C h (ix_of (rfl : r52.toInt = r52.toInt) (by omega)) dX6_simplify_104 ?_
          refine lv_iload_n hx hb dX6_simplify_105 rfl (lv_at hl 0 rfl) ?_
          refine lv_isub hx hb dX6_simplify_106 ?_
          refine Ms_25 C h (ix_of (rfl : r52.toInt = r52.toInt) (by omega)) dX6_simplify_107 (fun σ107 H locs eσ107 h => ?_)
          have hNEW : (0 ≤ (ga σ107 0 (0 : Int32)).toInt ∧ (ga σ107 0 (0 : Int32)).toInt ≤ 6) ∧ ((ga σ107 0 (0 : Int32)).toInt = (ga σ 0 (0 : Int32)).toInt) ∧ (MFr σ σ107) := ⟨(by rw [eσ107] <;> exact hp), (by rw [eσ107] <;> exact hpq), (by rw [eσ107]; exact (Fr_xa (by decide) (by decide) hLF))⟩
          clear hp hpq hLF
          obtain ⟨hp, hpq, hLF⟩ := hNEW
          have e47 : r47 = r39 := er47.trans er39.symm
          have stp := simp_step (σ := σL25) (n := (ga σ 0 (0 : Int32)).toInt.toNat) (lo := r47) (hi := r52) (by omega) hSBs.1 hSBs.2 (by omega) (by omega) (by rw [e47]; omega) (fun q hq => by have z := mx_52 (nI q) (by rw [nI_toInt (by omega)]; omega) (by rw [nI_toInt (by omega)]; omega); exact z) ev72 eσ87 eσ97 eσ107
          have hSB : (∀ q, q < (ga σ 0 (0 : Int32)).toInt.toNat → -20000000 ≤ lf σ107 25 q ∧ lf σ107 25 q ≤ 20000000) ∧ isum (lf σ107 25) (ga σ 0 (0 : Int32)).toInt.toNat = 0 := ⟨stp.1, stp.2.1⟩
          refine lv_goto (tgt := 25) hx hb dX6_simplify_108 (by decide) ?_
          exact ih σ107 _ _ _ hp hpq hLF hSB trivial (by omega) h (lv_sub hl [3] rfl) (fun σL25' H locs ls en hp hpq hLF hSB hI h hl => kk σL25' H locs ls ((show f_X6_simplify_L25 (n + 1) σL25 = f_X6_simplify_L25 n σ107 from (by have er39 := er39.symm; subst er39; have er47 := er47.symm; subst er47; have er52 := er52.symm; subst er52; have ev72 := ev72.symm; subst ev72; have eσ87 := eσ87.symm; subst eσ87; have eσ97 := eσ97.symm; subst eσ97; have eσ107 := eσ107.symm; subst eσ107; exact ((if_neg c31).trans ((if_neg c43).trans rfl)))).trans en) hp hpq hLF hSB hI h hl)
  refine hL25 (7) σL6e _ _ _ hp hpq hLF hSB trivial (by have z := nzc_le (lf σL6e 25) (ga σ 0 (0 : Int32)).toInt.toNat; omega) h hl (fun σL25e H locs ls eL25 hp hpq hLF hSB hI25 h hl => ?_)
  have eσL25e : σL25e = (f_X6_simplify_L25 (7) σL6e) := by rw [eL25]
  refine lv_iconst (v := 0) hx hb dX6_simplify_111 (by decide) ?_
  refine lv_istore_n (lv' := [(1, .int (0 : Int32)), (0, .ref (g.2.1 99))]) hx hb dX6_simplify_112 rfl hl (by decide) rfl (fun ls hl => ?_)
  have hL113 : ∀ (n : Nat) (x1_113 : Int32) (H : Heap) (locs : List Loc) (ls : Array Slot), (0 ≤ x1_113.toInt ∧ x1_113.toInt ≤ 36) → (36 - x1_113.toInt).toNat < n → f_X6_simplify σ = f_X6_simplify_L113 σL25e n x1_113 → MH g σL25e s H locs → lv_has ls 4 [(0, .ref (g.2.1 99)), (1, .int x1_113)] → W p l e ({ frames := 3, cells := 0, slots := 0, locals := 65 } : Room) s m args below meth c H locs 0 0 (MQ below (mQi g (f_X6_simplify σ).1 (f_X6_simplify σ).2 (fun u r => ((ga u 0 (0 : Int32)).toInt = (ga σ 0 (0 : Int32)).toInt) ∧ (MFr σ u))) args s 0 0 (mA g)) (F0 m 113 ls []) := by
    intro n
    induction n with
    | zero =>
      intro x1_113 H locs ls _ hm; exact absurd hm (Nat.not_lt_zero _)
    | succ n ih =>
      intro x1_113 H locs ls hI113 hm hf113 h hl
      refine lv_iload_n hx hb dX6_simplify_113 rfl (lv_at hl 1 rfl) ?_
      refine lv_bipush (v := 36) hx hb dX6_simplify_114 (by decide) ?_
      refine lv_icmp_ge (tgt := 144) hx hb dX6_simplify_116 (by decide) (fun c116 => ?_) (fun c116 => ?_)
      · have i116 := c_le c116
        refine lv_iconst (v := 0) hx hb dX6_simplify_144 (by decide) ?_
        refine lv_istore_n (lv' := [(1, .int (0 : Int32)), (0, .ref (g.2.1 99))]) hx hb dX6_simplify_145 rfl hl (by decide) rfl (fun ls hl => ?_)
        have hL146 : ∀ (n : Nat) (x1_146 : Int32) (σL146 : MS) (H : Heap) (locs : List Loc) (ls : Array Slot), (0 ≤ (ga σL146 0 (0 : Int32)).toInt ∧ (ga σL146 0 (0 : Int32)).toInt ≤ 6) → ((ga σL146 0 (0 : Int32)).toInt = (ga σ 0 (0 : Int32)).toInt) → (MFr σ σL146) → (0 ≤ x1_146.toInt ∧ x1_146.toInt ≤ 36) → (36 - x1_146.toInt).toNat < n → MH g σL146 s H locs → lv_has ls 4 [(0, .ref (g.2.1 99)), (1, .int x1_146)] → (∀ (x1_146' : Int32) (σL146' : MS) (H : Heap) (locs : List Loc) (ls : Array Slot), f_X6_simplify_L146 n x1_146 σL146 = (x1_146', σL146') → (0 ≤ (ga σL146' 0 (0 : Int32)).toInt ∧ (ga σL146' 0 (0 : Int32)).toInt ≤ 6) → ((ga σL146' 0 (0 : Int32)).toInt = (ga σ 0 (0 : Int32)).toInt) → (MFr σ σL146') → (0 ≤ x1_146'.toInt ∧ x1_146'.toInt ≤ 36) → MH g σL146' s H locs → lv_has ls 4 [(0, .ref (g.2.1 99))] → W p l e ({ frames := 3, cells := 0, slots := 0, locals := 65 } : Room) s m args below meth c H locs 0 0 (MQ below (mQi g (f_X6_simplify σ).1 (f_X6_simplify σ).2 (fun u r => ((ga u 0 (0 : Int32)).toInt = (ga σ 0 (0 : Int32)).toInt) ∧ (MFr σ u))) args s 0 0 (mA g)) (F0 m 173 ls [])) → W p l e ({ frames := 3, cells := 0, slots := 0, locals := 65 } : Room) s m args below meth c H locs 0 0 (MQ below (mQi g (f_X6_simplify σ).1 (f_X6_simplify σ).2 (fun u r => ((ga u 0 (0 : Int32)).toInt = (ga σ 0 (0 : Int32)).toInt) ∧ (MFr σ u))) args s 0 0 (mA g)) (F0 m 146 ls []) := by
          intro n
          induction n with
          | zero =>
            intro x1_146 σL146 H locs ls hp hpq hLF _ hm; exact absurd hm (Nat.not_lt_zero _)
          | succ n ih =>
            intro x1_146 σL146 H locs ls hp hpq hLF hI146 hm h hl kk
            refine lv_iload_n hx hb dX6_simplify_146 rfl (lv_at hl 1 rfl) ?_
            refine lv_bipush (v := 36) hx hb dX6_simplify_147 (by decide) ?_
            refine lv_icmp_ge (tgt := 173) hx hb dX6_simplify_149 (by decide) (fun c149 => ?_) (fun c149 => ?_)
            · have i149 := c_le c149
              exact kk x1_146 σL146 _ _ _ (show f_X6_simplify_L146 (n + 1) x1_146 σL146 = (x1_146, σL146) from (by exact ((if_pos c149).trans rfl))) hp hpq hLF (by first | assumption | omega) h (lv_sub hl [0] rfl)
            · have i149 := c_nle c149
              refine lv_aload_n hx hb dX6_simplify_152 rfl (lv_at hl 0 rfl) ?_
              refine Mg_0 C h dX6_simplify_153 ?_
              refine lv_bipush (v := 92) hx hb dX6_simplify_156 (by decide) ?_
              refine lv_iload_n hx hb dX6_simplify_158 rfl (lv_at hl 1 rfl) ?_
              refine lv_iadd hx hb dX6_simplify_159 ?_
              refine lv_aload_n hx hb dX6_simplify_160 rfl (lv_at hl 0 rfl) ?_
              refine Mg_26 C h dX6_simplify_161 ?_
              refine lv_iload_n hx hb dX6_simplify_164 rfl (lv_at hl 1 rfl) ?_
              refine Ml_26 C h (ix_of (rfl : x1_146.toInt = x1_146.toInt) (by omega)) dX6_simplify_165 ?_
              refine Ms_0 C h (ix_of (i_add zl92 (rfl : x1_146.toInt = x1_146.toInt) (by omega)) (by omega)) dX6_simplify_166 (fun σ166 H locs eσ166 h => ?_)
              have hNEW : (0 ≤ (ga σ166 0 (0 : Int32)).toInt ∧ (ga σ166 0 (0 : Int32)).toInt ≤ 6) ∧ ((ga σ166 0 (0 : Int32)).toInt = (ga σ 0 (0 : Int32)).toInt) ∧ (MFr σ σ166) := ⟨(by rw [eσ166, ga_sa_ne (j := (0 : Int32)) (i_add zl92 (rfl : x1_146.toInt = x1_146.toInt) (by omega)) zl0 (by omega)] <;> exact hp), (by rw [eσ166, ga_sa_ne (j := (0 : Int32)) (i_add zl92 (rfl : x1_146.toInt = x1_146.toInt) (by omega)) zl0 (by omega)] <;> exact hpq), (by rw [eσ166]; exact (Fr_sa (i_add zl92 (rfl : x1_146.toInt = x1_146.toInt) (by omega)) (by first | omega | (dsimp only; omega)) (by omega) hLF))⟩
              obtain ⟨hp, hpq, hLF⟩ := hNEW
              refine lv_iinc (v := (x1_146 + (1 : Int32))) (lv' := [(1, .int (x1_146 + (1 : Int32))), (0, .ref (g.2.1 99))]) hx hb dX6_simplify_167 hl (k := 1) rfl rfl (by decide) rfl (fun ls hl => ?_)
              refine lv_goto (tgt := 146) hx hb dX6_simplify_170 (by decide) ?_
              have tt1 : (x1_146 + (1 : Int32)).toInt = (x1_146.toInt + (1)) := (i_add (rfl : x1_146.toInt = x1_146.toInt) zl1 (by omega))
              exact ih (x1_146 + (1 : Int32)) σ166 _ _ _ hp hpq hLF (by first | assumption | omega) (by omega) h (lv_sub hl [1, 0] rfl) (fun x1_146' σL146' H locs ls en hp hpq hLF hI h hl => kk x1_146' σL146' H locs ls ((show f_X6_simplify_L146 (n + 1) x1_146 σL146 = f_X6_simplify_L146 n (x1_146 + (1 : Int32)) σ166 from (by have eσ166 := eσ166.symm; subst eσ166; exact ((if_neg c149).trans rfl))).trans en) hp hpq hLF hI h hl)
        refine hL146 (37) (0 : Int32) σL25e _ _ _ hp hpq hLF (by first | assumption | omega) (by omega) h (lv_sub hl [1, 0] rfl) (fun x1_146e σL146e H locs ls eL146 hp hpq hLF hI146 h hl => ?_)
        have ex1_146e : x1_146e = (f_X6_simplify_L146 (37) (0 : Int32) σL25e).1 := by rw [eL146]
        have eσL146e : σL146e = (f_X6_simplify_L146 (37) (0 : Int32) σL25e).2 := by rw [eL146]
        refine lv_aload_n hx hb dX6_simplify_173 rfl (lv_at hl 0 rfl) ?_
        refine lv_aload_n hx hb dX6_simplify_174 rfl (lv_at hl 0 rfl) ?_
        refine M_calli (As := []) (rest := [.ref (g.2.1 99)]) 0 C h (k_X6_tiesNow l g σL146e (by first | assumption | omega)) (lw_V q2085 q2087 qs122 q152 q2088) rfl rfl (by decide +kernel) ⟨Nat.le_of_ble_eq_true rfl, Nat.le_of_ble_eq_true rfl⟩ rfl hl.1 rfl (Nat.le_of_ble_eq_true rfl) ⟨Nat.le_of_ble_eq_true rfl, Nat.le_of_ble_eq_true rfl⟩ dX6_simplify_175 (fun r175 σ175 H locs eσ175 er175 hE175 h => ?_)
        rw [eσ175] at h
        clear hE175
        clear eσ175
        refine M_calli (As := [.int r175]) (rest := []) 1 C h (k_X6_gives l g σL146e r175) (lw_V q1806 q1808 qs91 q152 q1809) rfl rfl (by decide +kernel) ⟨Nat.le_of_ble_eq_true rfl, Nat.le_of_ble_eq_true rfl⟩ rfl hl.1 rfl (Nat.le_of_ble_eq_true rfl) ⟨Nat.le_of_ble_eq_true rfl, Nat.le_of_ble_eq_true rfl⟩ dX6_simplify_178 (fun r178 σ178 H locs eσ178 er178 hE178 h => ?_)
        clear hE178
        have hNEW : (0 ≤ (ga σ178 0 (0 : Int32)).toInt ∧ (ga σ178 0 (0 : Int32)).toInt ≤ 6) ∧ ((ga σ178 0 (0 : Int32)).toInt = (ga σ 0 (0 : Int32)).toInt) ∧ (MFr σ σ178) := ⟨(by rw [eσ178, gives_s] <;> exact hp), (by rw [eσ178, gives_s] <;> exact hpq), (by rw [eσ178, gives_s]; exact Fr_si (by decide) hLF)⟩
        obtain ⟨hp, hpq, hLF⟩ := hNEW
        have he : f_X6_simplify σ = (σ178, r178) := (by have ex1_146e := ex1_146e.symm; subst ex1_146e; have eσL146e := eσL146e.symm; subst eσL146e; have er175 := er175.symm; subst er175; have eσ178 := eσ178.symm; subst eσ178; have er178 := er178.symm; subst er178; exact (hf113.trans ((if_pos c116).trans rfl)))
        exact M_reti C h hr hlocks (congrArg Prod.fst he) (congrArg Prod.snd he) ⟨hpq, hLF⟩ dX6_simplify_181
      · have i116 := c_nle c116
        refine lv_aload_n hx hb dX6_simplify_119 rfl (lv_at hl 0 rfl) ?_
        refine Mg_26 C h dX6_simplify_120 ?_
        refine lv_iload_n hx hb dX6_simplify_123 rfl (lv_at hl 1 rfl) ?_
        refine Ml_26 C h (ix_of (rfl : x1_113.toInt = x1_113.toInt) (by omega)) dX6_simplify_124 ?_
        refine lv_ldcw hx hb hown (hts _ q1973) dX6_simplify_125 ?_
        refine lv_icmp_le (tgt := 138) hx hb dX6_simplify_128 (by decide) (fun c128 => ?_) (fun c128 => ?_)
        · have i128 := c_le c128
          refine lv_iinc (v := (x1_113 + (1 : Int32))) (lv' := [(1, .int (x1_113 + (1 : Int32))), (0, .ref (g.2.1 99))]) hx hb dX6_simplify_138 hl (k := 1) rfl rfl (by decide) rfl (fun ls hl => ?_)
          refine lv_goto (tgt := 113) hx hb dX6_simplify_141 (by decide) ?_
          have tt1 : (x1_113 + (1 : Int32)).toInt = (x1_113.toInt + (1)) := (i_add (rfl : x1_113.toInt = x1_113.toInt) zl1 (by omega))
          exact ih (x1_113 + (1 : Int32)) _ _ _  (by first | assumption | omega) (by omega) (by exact (hf113.trans ((if_neg c116).trans ((if_pos c128).trans rfl)))) h (lv_sub hl [1, 0] rfl)
        · have i128 := c_nle c128
          refine lv_aload_n hx hb dX6_simplify_131 rfl (lv_at hl 0 rfl) ?_
          refine lv_bipush (v := 7) hx hb dX6_simplify_132 (by decide) ?_
          refine M_calli (As := [.int (7 : Int32)]) (rest := []) 1 C h (k_X6_refuse l g σL25e (7 : Int32)) (lw_V q1723 q1725 qs71 q152 q1726) rfl rfl (by decide +kernel) ⟨Nat.le_of_ble_eq_true rfl, Nat.le_of_ble_eq_true rfl⟩ rfl hl.1 rfl (Nat.le_of_ble_eq_true rfl) ⟨Nat.le_of_ble_eq_true rfl, Nat.le_of_ble_eq_true rfl⟩ dX6_simplify_134 (fun r134 σ134 H locs eσ134 er134 hE134 h => ?_)
          clear hE134
          have hNEW : (0 ≤ (ga σ134 0 (0 : Int32)).toInt ∧ (ga σ134 0 (0 : Int32)).toInt ≤ 6) ∧ ((ga σ134 0 (0 : Int32)).toInt = (ga σ 0 (0 : Int32)).toInt) ∧ (MFr σ σ134) := ⟨(by rw [eσ134, refuse_s] <;> exact hp), (by rw [eσ134, refuse_s] <;> exact hpq), (by rw [eσ134, refuse_s]; exact Fr_si (by decide) hLF)⟩
          obtain ⟨hp, hpq, hLF⟩ := hNEW
          have he : f_X6_simplify σ = (σ134, r134) := (by have eσ134 := eσ134.symm; subst eσ134; have er134 := er134.symm; subst er134; exact (hf113.trans ((if_neg c116).trans ((if_neg c128).trans rfl))))
          exact M_reti C h hr hlocks (congrArg Prod.fst he) (congrArg Prod.snd he) ⟨hpq, hLF⟩ dX6_simplify_137
  exact hL113 (37) (0 : Int32) _ _ _  (by first | assumption | omega) (by omega) (by have eσ1 := eσ1.symm; subst eσ1; have ex1_6e := ex1_6e.symm; subst ex1_6e; have eσL6e := eσL6e.symm; subst eσL6e; have eσL25e := eσL25e.symm; subst eσL25e; exact rfl) h (lv_sub hl [1, 0] rfl)
def f_X6_behindEnds_L2 : Nat → Int32 → MS → Int32 × MS
  | 0, x2_2, σL2 => (x2_2, σL2)
  | n + 1, x2_2, σL2 => if (ga σL2 0 (9 : Int32)) ≤ x2_2 then ((x2_2, σL2)) else (if (ga σL2 0 ((130 : Int32) + ((6 : Int32) * x2_2))) = (26 : Int32) then ((let v46 := (ga σL2 0 (((130 : Int32) + ((6 : Int32) * x2_2)) + (4 : Int32))); (let z79_ : Int32 := (if (ga σL2 0 ((130 : Int32) + ((6 : Int32) * v46))) = (25 : Int32) then (if (ga σL2 30 v46) ≤ (0 : Int32) then ((0 : Int32)) else ((1 : Int32))) else ((0 : Int32))); let t0_79 := z79_; (let z98_ : Int32 := (if t0_79 = (0 : Int32) then ((0 : Int32)) else ((1 : Int32))); let t0_98 := z98_; (let σ99 := sa σL2 30 v46 ((ga σL2 30 v46) - t0_98); if t0_79 = (0 : Int32) then ((let v114 := (x2_2 + (1 : Int32)); f_X6_behindEnds_L2 n v114 σ99)) else ((let v114 := (v46 + (1 : Int32)); f_X6_behindEnds_L2 n v114 σ99))))))) else ((x2_2, σL2)))
def f_X6_behindEnds (σ : MS) (p1 : Int32) : MS × Int32 := (let zL2 := f_X6_behindEnds_L2 (61 * lps σ + 61) p1 σ; let x2_2e := zL2.1; let σL2e := zL2.2; (σL2e, x2_2e))
set_option maxHeartbeats 4000000 in
set_option maxRecDepth 100000 in
theorem k_X6_behindEnds (l : Launch) (g : GE) (σ : MS) (p1 : Int32) (hyk : YOK σ) (h1b : 0 ≤ p1.toInt ∧ p1.toInt ≤ 60) : Met l yX6_behindEnds (ws_ yX6_behindEnds cX6_behindEnds 5 (some .int)) ({ frames := 0, cells := 0, slots := 0, locals := 0 } : Room) (mPc g σ [.int p1]) (mQi g (f_X6_behindEnds σ p1).1 (f_X6_behindEnds σ p1).2 (fun u r => (∀ j : Int32, ga u 0 j = ga σ 0 j) ∧ (∀ k : Nat, gi u k = gi σ k) ∧ (MFr σ u) ∧ (0 ≤ r.toInt ∧ r.toInt ≤ 60))) 0 0 (mA g) := by
  refine met_M (by decide) rfl (Nat.le_of_ble_eq_true rfl) ?_
  intro p e s m args below meth c C hr hlocks h ls hl
  have hx := C.1.1
  have hb := C.1.2.1
  have hml := C.1.2.2.1
  have hown := C.1.2.2.2.1
  have hts := C.1.2.2.2.2
  have hl : lv_has ls 5 [(0, .ref (g.2.1 99)), (1, .int p1)] := hl
  have hA0 : ∀ j : Int32, ga σ 0 j = ga σ 0 j := fun _ => rfl
  have hGI : ∀ k : Nat, gi σ k = gi σ k := fun _ => rfl
  have hLF : MFr σ σ := Fr.rf
  have zl0 : (0 : Int32).toInt = 0 := rfl
  have zl1 : (1 : Int32).toInt = 1 := rfl
  have zl4 : (4 : Int32).toInt = 4 := rfl
  have zl6 : (6 : Int32).toInt = 6 := rfl
  have zl9 : (9 : Int32).toInt = 9 := rfl
  have zl25 : (25 : Int32).toInt = 25 := rfl
  have zl26 : (26 : Int32).toInt = 26 := rfl
  have zl130 : (130 : Int32).toInt = 130 := rfl
  refine lv_iload_n hx hb dX6_behindEnds_0 rfl (lv_at hl 1 rfl) ?_
  refine lv_istore_n (lv' := [(2, .int p1), (0, .ref (g.2.1 99)), (1, .int p1)]) hx hb dX6_behindEnds_1 rfl hl (by decide) rfl (fun ls hl => ?_)
  have hL2 : ∀ (n : Nat) (x2_2 : Int32) (σL2 : MS) (H : Heap) (locs : List Loc) (ls : Array Slot), (YOK σL2) → (∀ j : Int32, ga σL2 0 j = ga σ 0 j) → (∀ k : Nat, gi σL2 k = gi σ k) → (MFr σ σL2) → (0 ≤ x2_2.toInt ∧ x2_2.toInt ≤ 60) → 61 * lps σL2 + (60 - x2_2.toInt).toNat < n → MH g σL2 s H locs → lv_has ls 5 [(0, .ref (g.2.1 99)), (2, .int x2_2)] → (∀ (x2_2' : Int32) (σL2' : MS) (H : Heap) (locs : List Loc) (ls : Array Slot), f_X6_behindEnds_L2 n x2_2 σL2 = (x2_2', σL2') → (YOK σL2') → (∀ j : Int32, ga σL2' 0 j = ga σ 0 j) → (∀ k : Nat, gi σL2' k = gi σ k) → (MFr σ σL2') → (0 ≤ x2_2'.toInt ∧ x2_2'.toInt ≤ 60) → MH g σL2' s H locs → lv_has ls 5 [(2, .int x2_2')] → W p l e ({ frames := 0, cells := 0, slots := 0, locals := 0 } : Room) s m args below meth c H locs 0 0 (MQ below (mQi g (f_X6_behindEnds σ p1).1 (f_X6_behindEnds σ p1).2 (fun u r => (∀ j : Int32, ga u 0 j = ga σ 0 j) ∧ (∀ k : Nat, gi u k = gi σ k) ∧ (MFr σ u) ∧ (0 ≤ r.toInt ∧ r.toInt ≤ 60))) args s 0 0 (mA g)) (F0 m 118 ls [])) → W p l e ({ frames := 0, cells := 0, slots := 0, locals := 0 } : Room) s m args below meth c H locs 0 0 (MQ below (mQi g (f_X6_behindEnds σ p1).1 (f_X6_behindEnds σ p1).2 (fun u r => (∀ j : Int32, ga u 0 j = ga σ 0 j) ∧ (∀ k : Nat, gi u k = gi σ k) ∧ (MFr σ u) ∧ (0 ≤ r.toInt ∧ r.toInt ≤ 60))) args s 0 0 (mA g)) (F0 m 2 ls []) := by
    intro n
    induction n with
    | zero =>
      intro x2_2 σL2 H locs ls hyk hA0 hGI hLF _ hm; exact absurd hm (Nat.not_lt_zero _)
    | succ n ih =>
      intro x2_2 σL2 H locs ls hyk hA0 hGI hLF hI2 hm h hl kk
      have hykk := hyk.1
      refine lv_iload_n hx hb dX6_behindEnds_2 rfl (lv_at hl 1 rfl) ?_
      refine lv_aload_n hx hb dX6_behindEnds_3 rfl (lv_at hl 0 rfl) ?_
      refine Mg_0 C h dX6_behindEnds_4 ?_
      refine lv_bipush (v := 9) hx hb dX6_behindEnds_7 (by decide) ?_
      refine Ml_0 C h (ix_of zl9 (by omega)) dX6_behindEnds_9 ?_
      refine lv_icmp_ge (tgt := 118) hx hb dX6_behindEnds_10 (by decide) (fun c10 => ?_) (fun c10 => ?_)
      · have i10 := c_le c10
        exact kk x2_2 σL2 _ _ _ (show f_X6_behindEnds_L2 (n + 1) x2_2 σL2 = (x2_2, σL2) from (by exact ((if_pos c10).trans rfl))) hyk hA0 hGI hLF (by first | assumption | omega) h (lv_sub hl [1] rfl)
      · have i10 := c_nle c10
        refine lv_aload_n hx hb dX6_behindEnds_13 rfl (lv_at hl 0 rfl) ?_
        refine Mg_0 C h dX6_behindEnds_14 ?_
        refine lv_sipush (v := 130) hx hb dX6_behindEnds_17 (by decide) ?_
        refine lv_bipush (v := 6) hx hb dX6_behindEnds_20 (by decide) ?_
        refine lv_iload_n hx hb dX6_behindEnds_22 rfl (lv_at hl 1 rfl) ?_
        refine lv_imul hx hb dX6_behindEnds_23 ?_
        refine lv_iadd hx hb dX6_behindEnds_24 ?_
        refine Ml_0 C h (ix_of (i_add zl130 (i_mul zl6 (rfl : x2_2.toInt = x2_2.toInt) (by omega)) (by omega)) (by omega)) dX6_behindEnds_25 ?_
        refine lv_bipush (v := 26) hx hb dX6_behindEnds_26 (by decide) ?_
        refine lv_icmp_ne (tgt := 118) hx hb dX6_behindEnds_28 (by decide) (fun c28 => ?_) (fun c28 => ?_)
        · have i28 := c_ne c28
          exact kk x2_2 σL2 _ _ _ (show f_X6_behindEnds_L2 (n + 1) x2_2 σL2 = (x2_2, σL2) from (by exact ((if_neg c10).trans ((if_neg c28).trans rfl)))) hyk hA0 hGI hLF (by first | assumption | omega) h (lv_sub hl [1] rfl)
        · have i28 := c_eq c28
          refine lv_aload_n hx hb dX6_behindEnds_31 rfl (lv_at hl 0 rfl) ?_
          refine Mg_0 C h dX6_behindEnds_32 ?_
          refine lv_sipush (v := 130) hx hb dX6_behindEnds_35 (by decide) ?_
          refine lv_bipush (v := 6) hx hb dX6_behindEnds_38 (by decide) ?_
          refine lv_iload_n hx hb dX6_behindEnds_40 rfl (lv_at hl 1 rfl) ?_
          refine lv_imul hx hb dX6_behindEnds_41 ?_
          refine lv_iadd hx hb dX6_behindEnds_42 ?_
          refine lv_iconst (v := 4) hx hb dX6_behindEnds_43 (by decide) ?_
          refine lv_iadd hx hb dX6_behindEnds_44 ?_
          refine Ml_0 C h (ix_of (i_add (i_add zl130 (i_mul zl6 (rfl : x2_2.toInt = x2_2.toInt) (by omega)) (by omega)) zl4 (by omega)) (by omega)) dX6_behindEnds_45 ?_
          refine lv_topi (fun v46 ev46 => ?_)
          refine lv_istore_n (lv' := [(3, .int v46), (0, .ref (g.2.1 99)), (2, .int x2_2)]) hx hb dX6_behindEnds_46 rfl hl (by decide) rfl (fun ls hl => ?_)
          have w46 : 0 ≤ v46.toInt ∧ v46.toInt ≤ 59 := by rw [ev46]; exact (hyk.2 x2_2 (by omega) (by omega)).1 (i28.trans zl26)
          refine lv_aload_n hx hb dX6_behindEnds_47 rfl (lv_at hl 1 rfl) ?_
          refine Mg_0 C h dX6_behindEnds_48 ?_
          refine lv_sipush (v := 130) hx hb dX6_behindEnds_51 (by decide) ?_
          refine lv_bipush (v := 6) hx hb dX6_behindEnds_54 (by decide) ?_
          refine lv_iload_n hx hb dX6_behindEnds_56 rfl (lv_at hl 0 rfl) ?_
          refine lv_imul hx hb dX6_behindEnds_57 ?_
          refine lv_iadd hx hb dX6_behindEnds_58 ?_
          refine Ml_0 C h (ix_of (i_add zl130 (i_mul zl6 (rfl : v46.toInt = v46.toInt) (by omega)) (by omega)) (by omega)) dX6_behindEnds_59 ?_
          refine lv_bipush (v := 25) hx hb dX6_behindEnds_60 (by decide) ?_
          have j79 : ∀ (t0_79 : Int32) (H : Heap) (locs : List Loc) (ls : Array Slot) (ej79 : (if (ga σL2 0 ((130 : Int32) + ((6 : Int32) * v46))) = (25 : Int32) then (if (ga σL2 30 v46) ≤ (0 : Int32) then ((0 : Int32)) else ((1 : Int32))) else ((0 : Int32))) = t0_79) (bt0_79 : t0_79 = 0 ∨ t0_79 = 1) (hI79 : t0_79.toInt = 0 ∨ (t0_79.toInt = 1 ∧ 0 < (ga σL2 30 v46).toInt)) (h : MH g σL2 s H locs) (hl : lv_has ls 5 [(0, .ref (g.2.1 99)), (2, .int x2_2), (3, .int v46)]), W p l e ({ frames := 0, cells := 0, slots := 0, locals := 0 } : Room) s m args below meth c H locs 0 0 (MQ below (mQi g (f_X6_behindEnds σ p1).1 (f_X6_behindEnds σ p1).2 (fun u r => (∀ j : Int32, ga u 0 j = ga σ 0 j) ∧ (∀ k : Nat, gi u k = gi σ k) ∧ (MFr σ u) ∧ (0 ≤ r.toInt ∧ r.toInt ≤ 60))) args s 0 0 (mA g)) (F0 m 79 ls [.int t0_79]) := by
            intro t0_79 H locs ls ej79 bt0_79 hI79 h hl
            have et0_79 := ej79.symm
            refine lv_istore (lv' := [(4, .int t0_79), (0, .ref (g.2.1 99)), (2, .int x2_2), (3, .int v46)]) hx hb dX6_behindEnds_79 hl (by decide) rfl (fun ls hl => ?_)
            refine lv_aload_n hx hb dX6_behindEnds_81 rfl (lv_at hl 1 rfl) ?_
            refine Mg_30 C h dX6_behindEnds_82 ?_
            refine lv_iload_n hx hb dX6_behindEnds_85 rfl (lv_at hl 3 rfl) ?_
            refine lv_dup2_11 hx hb dX6_behindEnds_86 rfl rfl ?_
            refine Ml_30 C h (ix_of (rfl : v46.toInt = v46.toInt) (by omega)) dX6_behindEnds_87 ?_
            refine lv_iload hx hb dX6_behindEnds_88 (lv_at hl 0 rfl) ?_
            have j98 : ∀ (t0_98 : Int32) (H : Heap) (locs : List Loc) (ls : Array Slot) (ej98 : (if t0_79 = (0 : Int32) then ((0 : Int32)) else ((1 : Int32))) = t0_98) (bt0_98 : t0_98 = 0 ∨ t0_98 = 1) (hI98 : (t0_98.toInt = 0 ∧ t0_79.toInt = 0) ∨ (t0_98.toInt = 1 ∧ t0_79.toInt = 1)) (h : MH g σL2 s H locs) (hl : lv_has ls 5 [(0, .ref (g.2.1 99)), (2, .int x2_2), (3, .int v46), (4, .int t0_79)]), W p l e ({ frames := 0, cells := 0, slots := 0, locals := 0 } : Room) s m args below meth c H locs 0 0 (MQ below (mQi g (f_X6_behindEnds σ p1).1 (f_X6_behindEnds σ p1).2 (fun u r => (∀ j : Int32, ga u 0 j = ga σ 0 j) ∧ (∀ k : Nat, gi u k = gi σ k) ∧ (MFr σ u) ∧ (0 ≤ r.toInt ∧ r.toInt ≤ 60))) args s 0 0 (mA g)) (F0 m 98 ls [.int t0_98, .int (ga σL2 30 v46), .int v46, .ref (g.2.1 30)]) := by
              intro t0_98 H locs ls ej98 bt0_98 hI98 h hl
              have et0_98 := ej98.symm
              refine lv_isub hx hb dX6_behindEnds_98 ?_
              refine Ms_30 C h (ix_of (rfl : v46.toInt = v46.toInt) (by omega)) dX6_behindEnds_99 (fun σ99 H locs eσ99 h => ?_)
              have hNEW : (YOK σ99) ∧ (∀ j : Int32, ga σ99 0 j = ga σ 0 j) ∧ (∀ k : Nat, gi σ99 k = gi σ k) ∧ (MFr σ σ99) := ⟨(by rw [eσ99] <;> exact hyk), (by rw [eσ99] <;> exact hA0), (by rw [eσ99] <;> exact hGI), (by rw [eσ99]; exact (Fr_xa (by decide) (by decide) hLF))⟩
              obtain ⟨hyk, hA0, hGI, hLF⟩ := hNEW
              have dl := lps_dec (o := v46) (t := t0_98) (by omega) (by omega) eσ99
              refine lv_iload hx hb dX6_behindEnds_100 (lv_at hl 3 rfl) ?_
              refine lv_if_eq (tgt := 111) hx hb dX6_behindEnds_102 (by decide) (fun c102 => ?_) (fun c102 => ?_)
              · have i102 := c_eq c102
                refine lv_iload_n hx hb dX6_behindEnds_111 rfl (lv_at hl 1 rfl) ?_
                refine lv_iconst (v := 1) hx hb dX6_behindEnds_112 (by decide) ?_
                refine lv_iadd hx hb dX6_behindEnds_113 ?_
                refine lv_topi (fun v114 ev114 => ?_)
                have tv114 : v114.toInt = (x2_2.toInt + (1)) := by rw [ev114]; exact (i_add (rfl : x2_2.toInt = x2_2.toInt) zl1 (by omega))
                refine lv_istore_n (lv' := [(2, .int v114), (0, .ref (g.2.1 99)), (3, .int v46), (4, .int t0_79)]) hx hb dX6_behindEnds_114 rfl hl (by decide) rfl (fun ls hl => ?_)
                refine lv_goto (tgt := 2) hx hb dX6_behindEnds_115 (by decide) ?_
                exact ih v114 σ99 _ _ _ hyk hA0 hGI hLF (by first | assumption | omega) (by omega) h (lv_sub hl [1, 0] rfl) (fun x2_2' σL2' H locs ls en hyk hA0 hGI hLF hI h hl => kk x2_2' σL2' H locs ls ((show f_X6_behindEnds_L2 (n + 1) x2_2 σL2 = f_X6_behindEnds_L2 n v114 σ99 from (by have ev46 := ev46.symm; subst ev46; have et0_79 := et0_79.symm; subst et0_79; have et0_98 := et0_98.symm; subst et0_98; have eσ99 := eσ99.symm; subst eσ99; have ev114 := ev114.symm; subst ev114; exact ((if_neg c10).trans ((if_pos c28).trans ((if_pos c102).trans rfl))))).trans en) hyk hA0 hGI hLF hI h hl)
              · have i102 := c_ne c102
                refine lv_iload_n hx hb dX6_behindEnds_105 rfl (lv_at hl 2 rfl) ?_
                refine lv_iconst (v := 1) hx hb dX6_behindEnds_106 (by decide) ?_
                refine lv_iadd hx hb dX6_behindEnds_107 ?_
                refine lv_goto (tgt := 114) hx hb dX6_behindEnds_108 (by decide) ?_
                refine lv_topi (fun v114 ev114 => ?_)
                have tv114 : v114.toInt = (v46.toInt + (1)) := by rw [ev114]; exact (i_add (rfl : v46.toInt = v46.toInt) zl1 (by omega))
                refine lv_istore_n (lv' := [(2, .int v114), (0, .ref (g.2.1 99)), (3, .int v46), (4, .int t0_79)]) hx hb dX6_behindEnds_114 rfl hl (by decide) rfl (fun ls hl => ?_)
                refine lv_goto (tgt := 2) hx hb dX6_behindEnds_115 (by decide) ?_
                exact ih v114 σ99 _ _ _ hyk hA0 hGI hLF (by first | assumption | omega) (by omega) h (lv_sub hl [1, 0] rfl) (fun x2_2' σL2' H locs ls en hyk hA0 hGI hLF hI h hl => kk x2_2' σL2' H locs ls ((show f_X6_behindEnds_L2 (n + 1) x2_2 σL2 = f_X6_behindEnds_L2 n v114 σ99 from (by have ev46 := ev46.symm; subst ev46; have et0_79 := et0_79.symm; subst et0_79; have et0_98 := et0_98.symm; subst et0_98; have eσ99 := eσ99.symm; subst eσ99; have ev114 := ev114.symm; subst ev114; exact ((if_neg c10).trans ((if_pos c28).trans ((if_neg c102).trans rfl))))).trans en) hyk hA0 hGI hLF hI h hl)
            refine lv_if_eq (tgt := 97) hx hb dX6_behindEnds_90 (by decide) (fun c90 => ?_) (fun c90 => ?_)
            · have i90 := c_eq c90
              refine lv_iconst (v := 0) hx hb dX6_behindEnds_97 (by decide) ?_
              exact j98 _ _ _ _ (by exact ((if_pos c90).trans rfl)) (Or.inl rfl) (by first | assumption | omega) h (lv_sub hl [1, 2, 3, 0] rfl)
            · have i90 := c_ne c90
              refine lv_iconst (v := 1) hx hb dX6_behindEnds_93 (by decide) ?_
              refine lv_goto (tgt := 98) hx hb dX6_behindEnds_94 (by decide) ?_
              exact j98 _ _ _ _ (by exact ((if_neg c90).trans rfl)) (Or.inr rfl) (by first | assumption | omega) h (lv_sub hl [1, 2, 3, 0] rfl)
          refine lv_icmp_ne (tgt := 78) hx hb dX6_behindEnds_62 (by decide) (fun c62 => ?_) (fun c62 => ?_)
          · have i62 := c_ne c62
            refine lv_iconst (v := 0) hx hb dX6_behindEnds_78 (by decide) ?_
            exact j79 _ _ _ _ (by exact ((if_neg c62).trans rfl)) (Or.inl rfl) (by first | assumption | omega) h (lv_sub hl [1, 2, 0] rfl)
          · have i62 := c_eq c62
            refine lv_aload_n hx hb dX6_behindEnds_65 rfl (lv_at hl 1 rfl) ?_
            refine Mg_30 C h dX6_behindEnds_66 ?_
            refine lv_iload_n hx hb dX6_behindEnds_69 rfl (lv_at hl 0 rfl) ?_
            refine Ml_30 C h (ix_of (rfl : v46.toInt = v46.toInt) (by omega)) dX6_behindEnds_70 ?_
            refine lv_if_le (tgt := 78) hx hb dX6_behindEnds_71 (by decide) (fun c71 => ?_) (fun c71 => ?_)
            · have i71 := c_le c71
              refine lv_iconst (v := 0) hx hb dX6_behindEnds_78 (by decide) ?_
              exact j79 _ _ _ _ (by exact ((if_pos c62).trans ((if_pos c71).trans rfl))) (Or.inl rfl) (by first | assumption | omega) h (lv_sub hl [1, 2, 0] rfl)
            · have i71 := c_nle c71
              refine lv_iconst (v := 1) hx hb dX6_behindEnds_74 (by decide) ?_
              refine lv_goto (tgt := 79) hx hb dX6_behindEnds_75 (by decide) ?_
              exact j79 _ _ _ _ (by exact ((if_pos c62).trans ((if_neg c71).trans rfl))) (Or.inr rfl) (by first | assumption | omega) h (lv_sub hl [1, 2, 0] rfl)
  refine hL2 (61 * lps σ + 61) p1 σ _ _ _ hyk hA0 hGI hLF (by first | assumption | omega) (by omega) h (lv_sub hl [1, 0] rfl) (fun x2_2e σL2e H locs ls eL2 hyk hA0 hGI hLF hI2 h hl => ?_)
  have ex2_2e : x2_2e = (f_X6_behindEnds_L2 (61 * lps σ + 61) p1 σ).1 := by rw [eL2]
  have eσL2e : σL2e = (f_X6_behindEnds_L2 (61 * lps σ + 61) p1 σ).2 := by rw [eL2]
  refine lv_iload_n hx hb dX6_behindEnds_118 rfl (lv_at hl 0 rfl) ?_
  have he : f_X6_behindEnds σ p1 = (σL2e, x2_2e) := (by have ex2_2e := ex2_2e.symm; subst ex2_2e; have eσL2e := eσL2e.symm; subst eσL2e; exact rfl)
  exact M_reti C h hr hlocks (congrArg Prod.fst he) (congrArg Prod.snd he) ⟨hA0, hGI, hLF, (by first | assumption | omega | (unfold Hd; omega))⟩ dX6_behindEnds_119
def f_X6_reaches_L23 (σ : MS) : Nat → Int32 → Int32 → Int32 × Int32
  | 0, x2_23, x3_23 => (x2_23, x3_23)
  | n + 1, x2_23, x3_23 => (let r29 := (f_X6_personRow x3_23); if x2_23 < (ga σ 0 (r29 + (1 : Int32))) then ((x2_23, x3_23)) else ((let r44 := (f_X6_personRow x3_23); let v51 := (x2_23 - (ga σ 0 (r44 + (1 : Int32)))); f_X6_reaches_L23 σ n v51 (x3_23 + (1 : Int32)))))
def f_X6_reaches (σ : MS) : MS × Int32 := (let r2 := (f_X6_everybody σ); let r5 := (f_X6_quickOf σ r2); if r5 = (0 : Int32) then ((σ, (0 : Int32))) else ((let z17 := (f_X6_draw σ r5); let σ17 := z17.1; let r17 := z17.2; (let zL23 := f_X6_reaches_L23 σ17 (7) r17 (0 : Int32); let x2_23e := zL23.1; let x3_23e := zL23.2; (let z60 := (f_X6_dines σ17 x3_23e); let σ60 := z60.1; let r60 := z60.2; (σ60, r60))))))
set_option maxHeartbeats 4000000 in
set_option maxRecDepth 100000 in
theorem k_X6_reaches (l : Launch) (g : GE) (σ : MS) (hp : 0 ≤ (ga σ 0 (0 : Int32)).toInt ∧ (ga σ 0 (0 : Int32)).toInt ≤ 6) (hd : 0 ≤ (ga σ 0 (2 : Int32)).toInt ∧ (ga σ 0 (2 : Int32)).toInt ≤ 16) (hdr : 0 ≤ (gi σ 28).toInt ∧ (gi σ 28).toInt ≤ 65535) (hQR : QR σ) : Met l yX6_reaches (ws_ yX6_reaches cX6_reaches 4 (some .boolean)) ({ frames := 6, cells := 0, slots := 0, locals := 135 } : Room) (mPc g σ []) (mQz g (f_X6_reaches σ).1 (f_X6_reaches σ).2 (fun u r => ((ga u 0 (0 : Int32)).toInt = (ga σ 0 (0 : Int32)).toInt) ∧ ((ga u 0 (2 : Int32)).toInt = (ga σ 0 (2 : Int32)).toInt) ∧ (∀ j : Int32, 130 ≤ j.toInt → ga u 0 j = ga σ 0 j) ∧ ((gi u 29).toInt = (gi σ 29).toInt) ∧ ((ga u 0 (9 : Int32)).toInt = (ga σ 0 (9 : Int32)).toInt) ∧ (∀ x : Int32, (0 ≤ x.toInt ∧ x.toInt ≤ 5) → ga u 0 ((f_X6_personRow x) + (1 : Int32)) = ga σ 0 ((f_X6_personRow x) + (1 : Int32))) ∧ (MFr σ u) ∧ (0 ≤ (gi u 28).toInt ∧ (gi u 28).toInt ≤ 65535))) 0 0 (mA g) := by
  refine met_M (by decide) rfl (Nat.le_of_ble_eq_true rfl) ?_
  intro p e s m args below meth c C hr hlocks h ls hl
  have hx := C.1.1
  have hb := C.1.2.1
  have hml := C.1.2.2.1
  have hown := C.1.2.2.2.1
  have hts := C.1.2.2.2.2
  have hl : lv_has ls 4 [(0, .ref (g.2.1 99))] := hl
  have hpq : (ga σ 0 (0 : Int32)).toInt = (ga σ 0 (0 : Int32)).toInt := rfl
  have hdq : (ga σ 0 (2 : Int32)).toInt = (ga σ 0 (2 : Int32)).toInt := rfl
  have hY : ∀ j : Int32, 130 ≤ j.toInt → ga σ 0 j = ga σ 0 j := fun _ _ => rfl
  have hrq : (gi σ 29).toInt = (gi σ 29).toInt := rfl
  have hsq : (ga σ 0 (9 : Int32)).toInt = (ga σ 0 (9 : Int32)).toInt := rfl
  have hQq : ∀ x : Int32, (0 ≤ x.toInt ∧ x.toInt ≤ 5) → ga σ 0 ((f_X6_personRow x) + (1 : Int32)) = ga σ 0 ((f_X6_personRow x) + (1 : Int32)) := fun _ _ => rfl
  have hLF : MFr σ σ := Fr.rf
  have zl0 : (0 : Int32).toInt = 0 := rfl
  have zl1 : (1 : Int32).toInt = 1 := rfl
  have zl8 : (8 : Int32).toInt = 8 := rfl
  have zl12 : (12 : Int32).toInt = 12 := rfl
  refine lv_aload_n hx hb dX6_reaches_0 rfl (lv_at hl 0 rfl) ?_
  refine lv_aload_n hx hb dX6_reaches_1 rfl (lv_at hl 0 rfl) ?_
  refine M_calli (As := []) (rest := [.ref (g.2.1 99)]) 0 C h (k_X6_everybody l g σ) (lw_V q1846 q1848 qs99 q152 q1849) rfl rfl (by decide +kernel) ⟨Nat.le_of_ble_eq_true rfl, Nat.le_of_ble_eq_true rfl⟩ rfl hl.1 rfl (Nat.le_of_ble_eq_true rfl) ⟨Nat.le_of_ble_eq_true rfl, Nat.le_of_ble_eq_true rfl⟩ dX6_reaches_2 (fun r2 σ2 H locs eσ2 er2 hE2 h => ?_)
  rw [eσ2] at h
  clear hE2
  clear eσ2
  have rgr2 := everybody_rng hp er2
  refine M_calli (As := [.int r2]) (rest := []) 1 C h (k_X6_quickOf l g σ r2 (by first | assumption | omega)) (lw_V q2036 q2038 qs119 q152 q2039) rfl rfl (by decide +kernel) ⟨Nat.le_of_ble_eq_true rfl, Nat.le_of_ble_eq_true rfl⟩ rfl hl.1 rfl (Nat.le_of_ble_eq_true rfl) ⟨Nat.le_of_ble_eq_true rfl, Nat.le_of_ble_eq_true rfl⟩ dX6_reaches_5 (fun r5 σ5 H locs eσ5 er5 hE5 h => ?_)
  rw [eσ5] at h
  clear hE5
  clear eσ5
  refine lv_istore_n (lv' := [(1, .int r5), (0, .ref (g.2.1 99))]) hx hb dX6_reaches_8 rfl hl (by decide) rfl (fun ls hl => ?_)
  refine lv_iload_n hx hb dX6_reaches_9 rfl (lv_at hl 0 rfl) ?_
  refine lv_if_ne (tgt := 15) hx hb dX6_reaches_10 (by decide) (fun c10 => ?_) (fun c10 => ?_)
  · have i10 := c_ne c10
    refine lv_aload_n hx hb dX6_reaches_15 rfl (lv_at hl 1 rfl) ?_
    have qv := quick_val hp hQR
    have qn := quick_nn (σ := σ) (n := (ga σ 0 (0 : Int32)).toInt.toNat) (by omega) hQR
    have e5 : r5.toInt = isum (qf σ) (ga σ 0 (0 : Int32)).toInt.toNat := by rw [er5, er2]; exact qv
    refine lv_iload_n hx hb dX6_reaches_16 rfl (lv_at hl 0 rfl) ?_
    refine M_calli (As := [.int r5]) (rest := []) 1 C h (k_X6_draw l g σ r5 (by first | assumption | omega) (by first | assumption | omega) (by first | assumption | omega) (by first | assumption | omega)) (lw_V q2223 q2225 qs137 q152 q2226) rfl rfl (by decide +kernel) ⟨Nat.le_of_ble_eq_true rfl, Nat.le_of_ble_eq_true rfl⟩ rfl hl.1 rfl (Nat.le_of_ble_eq_true rfl) ⟨Nat.le_of_ble_eq_true rfl, Nat.le_of_ble_eq_true rfl⟩ dX6_reaches_17 (fun r17 σ17 H locs eσ17 er17 hE17 h => ?_)
    have hE17 : ((ga σ17 0 (0 : Int32)).toInt = (ga σ 0 (0 : Int32)).toInt) ∧ ((ga σ17 0 (2 : Int32)).toInt = (ga σ 0 (2 : Int32)).toInt) ∧ (∀ j : Int32, 130 ≤ j.toInt → ga σ17 0 j = ga σ 0 j) ∧ ((gi σ17 29).toInt = (gi σ 29).toInt) ∧ ((ga σ17 0 (9 : Int32)).toInt = (ga σ 0 (9 : Int32)).toInt) ∧ (∀ x : Int32, (0 ≤ x.toInt ∧ x.toInt ≤ 5) → ga σ17 0 ((f_X6_personRow x) + (1 : Int32)) = ga σ 0 ((f_X6_personRow x) + (1 : Int32))) ∧ (MFr σ σ17) ∧ (0 ≤ (gi σ17 28).toInt ∧ (gi σ17 28).toInt ≤ 65535) ∧ (0 ≤ r17.toInt ∧ r17.toInt < r5.toInt) := hE17
    obtain ⟨hpq_17, hdq_17, hY_17, hrq_17, hsq_17, hQq_17, hLF_17, hdr_17, drg_17⟩ := hE17
    have hNEW : (0 ≤ (ga σ17 0 (0 : Int32)).toInt ∧ (ga σ17 0 (0 : Int32)).toInt ≤ 6) ∧ (0 ≤ (ga σ17 0 (2 : Int32)).toInt ∧ (ga σ17 0 (2 : Int32)).toInt ≤ 16) ∧ (0 ≤ (gi σ17 28).toInt ∧ (gi σ17 28).toInt ≤ 65535) ∧ (QR σ17) ∧ ((ga σ17 0 (0 : Int32)).toInt = (ga σ 0 (0 : Int32)).toInt) ∧ ((ga σ17 0 (2 : Int32)).toInt = (ga σ 0 (2 : Int32)).toInt) ∧ (∀ j : Int32, 130 ≤ j.toInt → ga σ17 0 j = ga σ 0 j) ∧ ((gi σ17 29).toInt = (gi σ 29).toInt) ∧ ((ga σ17 0 (9 : Int32)).toInt = (ga σ 0 (9 : Int32)).toInt) ∧ (∀ x : Int32, (0 ≤ x.toInt ∧ x.toInt ≤ 5) → ga σ17 0 ((f_X6_personRow x) + (1 : Int32)) = ga σ 0 ((f_X6_personRow x) + (1 : Int32))) ∧ (MFr σ σ17) := ⟨(by first | assumption | omega), (by first | assumption | omega), (by first | assumption | omega), (fun x hx => by rw [hQq_17 x hx]; exact hQR x hx), (by first | assumption | omega), (by first | assumption | omega), (fun j hj => (hY_17 j hj).trans (hY j hj)), (by first | assumption | omega), (by first | assumption | omega), (fun j hj => (hQq_17 j hj).trans (hQq j hj)), (Fr.tr hLF hLF_17)⟩
    obtain ⟨hp, hd, hdr, hQR, hpq, hdq, hY, hrq, hsq, hQq, hLF⟩ := hNEW
    have hs17 : isum (qf σ17) (ga σ17 0 (0 : Int32)).toInt.toNat = isum (qf σ) (ga σ 0 (0 : Int32)).toInt.toNat := by rw [hpq_17]; exact isum_eq _ (fun q hq => by unfold qf; rw [hQq_17 (nI q) (by rw [nI_toInt (by omega)]; omega)])
    refine lv_istore_n (lv' := [(2, .int r17), (1, .int r5), (0, .ref (g.2.1 99))]) hx hb dX6_reaches_20 rfl hl (by decide) rfl (fun ls hl => ?_)
    refine lv_iconst (v := 0) hx hb dX6_reaches_21 (by decide) ?_
    refine lv_istore_n (lv' := [(3, .int (0 : Int32)), (2, .int r17), (1, .int r5), (0, .ref (g.2.1 99))]) hx hb dX6_reaches_22 rfl hl (by decide) rfl (fun ls hl => ?_)
    have hL23 : ∀ (n : Nat) (x2_23 : Int32) (x3_23 : Int32) (H : Heap) (locs : List Loc) (ls : Array Slot), (0 ≤ x2_23.toInt ∧ x2_23.toInt ≤ 200 ∧ 0 ≤ x3_23.toInt ∧ x3_23.toInt ≤ (ga σ17 0 (0 : Int32)).toInt ∧ x2_23.toInt + isum (qf σ17) x3_23.toInt.toNat < isum (qf σ17) (ga σ17 0 (0 : Int32)).toInt.toNat) → ((ga σ17 0 (0 : Int32)).toInt - x3_23.toInt).toNat < n → MH g σ17 s H locs → lv_has ls 4 [(0, .ref (g.2.1 99)), (2, .int x2_23), (3, .int x3_23)] → (∀ (x2_23' : Int32) (x3_23' : Int32) (H : Heap) (locs : List Loc) (ls : Array Slot), f_X6_reaches_L23 σ17 n x2_23 x3_23 = (x2_23', x3_23') → (0 ≤ x3_23'.toInt ∧ x3_23'.toInt < (ga σ17 0 (0 : Int32)).toInt) → MH g σ17 s H locs → lv_has ls 4 [(0, .ref (g.2.1 99)), (3, .int x3_23')] → W p l e ({ frames := 6, cells := 0, slots := 0, locals := 135 } : Room) s m args below meth c H locs 0 0 (MQ below (mQz g (f_X6_reaches σ).1 (f_X6_reaches σ).2 (fun u r => ((ga u 0 (0 : Int32)).toInt = (ga σ 0 (0 : Int32)).toInt) ∧ ((ga u 0 (2 : Int32)).toInt = (ga σ 0 (2 : Int32)).toInt) ∧ (∀ j : Int32, 130 ≤ j.toInt → ga u 0 j = ga σ 0 j) ∧ ((gi u 29).toInt = (gi σ 29).toInt) ∧ ((ga u 0 (9 : Int32)).toInt = (ga σ 0 (9 : Int32)).toInt) ∧ (∀ x : Int32, (0 ≤ x.toInt ∧ x.toInt ≤ 5) → ga u 0 ((f_X6_personRow x) + (1 : Int32)) = ga σ 0 ((f_X6_personRow x) + (1 : Int32))) ∧ (MFr σ u) ∧ (0 ≤ (gi u 28).toInt ∧ (gi u 28).toInt ≤ 65535))) args s 0 0 (mA g)) (F0 m 58 ls [])) → W p l e ({ frames := 6, cells := 0, slots := 0, locals := 135 } : Room) s m args below meth c H locs 0 0 (MQ below (mQz g (f_X6_reaches σ).1 (f_X6_reaches σ).2 (fun u r => ((ga u 0 (0 : Int32)).toInt = (ga σ 0 (0 : Int32)).toInt) ∧ ((ga u 0 (2 : Int32)).toInt = (ga σ 0 (2 : Int32)).toInt) ∧ (∀ j : Int32, 130 ≤ j.toInt → ga u 0 j = ga σ 0 j) ∧ ((gi u 29).toInt = (gi σ 29).toInt) ∧ ((ga u 0 (9 : Int32)).toInt = (ga σ 0 (9 : Int32)).toInt) ∧ (∀ x : Int32, (0 ≤ x.toInt ∧ x.toInt ≤ 5) → ga u 0 ((f_X6_personRow x) + (1 : Int32)) = ga σ 0 ((f_X6_personRow x) + (1 : Int32))) ∧ (MFr σ u) ∧ (0 ≤ (gi u 28).toInt ∧ (gi u 28).toInt ≤ 65535))) args s 0 0 (mA g)) (F0 m 23 ls []) := by
      intro n
      induction n with
      | zero =>
        intro x2_23 x3_23 H locs ls _ hm; exact absurd hm (Nat.not_lt_zero _)
      | succ n ih =>
        intro x2_23 x3_23 H locs ls hI23 hm h hl kk
        have pn : x3_23.toInt < (ga σ17 0 (0 : Int32)).toInt := Int.not_le.mp (fun q => by have e := (show x3_23.toInt = (ga σ17 0 (0 : Int32)).toInt by omega); have z := hI23.2.2.2.2; rw [e] at z; omega)
        refine lv_iload_n hx hb dX6_reaches_23 rfl (lv_at hl 1 rfl) ?_
        refine lv_aload_n hx hb dX6_reaches_24 rfl (lv_at hl 0 rfl) ?_
        refine Mg_0 C h dX6_reaches_25 ?_
        refine lv_iload_n hx hb dX6_reaches_28 rfl (lv_at hl 2 rfl) ?_
        refine s_calli (As := [.int x3_23]) (rest := [.ref (g.2.1 0), .int x2_23]) 1 C.1 (k_X6_personRow l x3_23) (lw_S q1857 q1858 q152 q1859) rfl rfl (by decide +kernel) ⟨Nat.le_of_ble_eq_true rfl, Nat.le_of_ble_eq_true rfl⟩ rfl hl.1 rfl (Nat.le_of_ble_eq_true rfl) ⟨Nat.le_of_ble_eq_true rfl, Nat.le_of_ble_eq_true rfl⟩ dX6_reaches_29 h.2.2 (fun r29 H locs er29 hz1 hk1 hS1 => ?_)
        have h := h.same hk1 hS1
        clear hz1 hk1 hS1
        have tr29 : r29.toInt = ((12) + ((8) * x3_23.toInt)) := by rw [er29]; exact (i_add zl12 (i_mul zl8 (rfl : x3_23.toInt = x3_23.toInt) (by omega)) (by omega))
        refine lv_iconst (v := 1) hx hb dX6_reaches_32 (by decide) ?_
        refine lv_iadd hx hb dX6_reaches_33 ?_
        refine Ml_0 C h (ix_of (i_add tr29 zl1 (by omega)) (by omega)) dX6_reaches_34 ?_
        have q29 := qf_at (σ := σ17) (x := x3_23) (by omega) er29
        refine lv_icmp_lt (tgt := 58) hx hb dX6_reaches_35 (by decide) (fun c35 => ?_) (fun c35 => ?_)
        · have i35 := c_lt c35
          exact kk x2_23 x3_23 _ _ _ (show f_X6_reaches_L23 σ17 (n + 1) x2_23 x3_23 = (x2_23, x3_23) from (by have er29 := er29.symm; subst er29; exact ((if_pos c35).trans rfl)))  (by omega) h (lv_sub hl [0, 2] rfl)
        · have i35 := c_nlt c35
          refine lv_iload_n hx hb dX6_reaches_38 rfl (lv_at hl 1 rfl) ?_
          refine lv_aload_n hx hb dX6_reaches_39 rfl (lv_at hl 0 rfl) ?_
          refine Mg_0 C h dX6_reaches_40 ?_
          refine lv_iload_n hx hb dX6_reaches_43 rfl (lv_at hl 2 rfl) ?_
          refine s_calli (As := [.int x3_23]) (rest := [.ref (g.2.1 0), .int x2_23]) 1 C.1 (k_X6_personRow l x3_23) (lw_S q1857 q1858 q152 q1859) rfl rfl (by decide +kernel) ⟨Nat.le_of_ble_eq_true rfl, Nat.le_of_ble_eq_true rfl⟩ rfl hl.1 rfl (Nat.le_of_ble_eq_true rfl) ⟨Nat.le_of_ble_eq_true rfl, Nat.le_of_ble_eq_true rfl⟩ dX6_reaches_44 h.2.2 (fun r44 H locs er44 hz1 hk1 hS1 => ?_)
          have h := h.same hk1 hS1
          clear hz1 hk1 hS1
          have tr44 : r44.toInt = ((12) + ((8) * x3_23.toInt)) := by rw [er44]; exact (i_add zl12 (i_mul zl8 (rfl : x3_23.toInt = x3_23.toInt) (by omega)) (by omega))
          refine lv_iconst (v := 1) hx hb dX6_reaches_47 (by decide) ?_
          refine lv_iadd hx hb dX6_reaches_48 ?_
          refine Ml_0 C h (ix_of (i_add tr44 zl1 (by omega)) (by omega)) dX6_reaches_49 ?_
          have q44 := qf_at (σ := σ17) (x := x3_23) (by omega) er44
          have hq9 := hQR x3_23 (by omega)
          rw [← er44] at hq9
          refine lv_isub hx hb dX6_reaches_50 ?_
          refine lv_topi (fun v51 ev51 => ?_)
          have tv51 : v51.toInt = (x2_23.toInt - (ga σ17 0 (r44 + (1 : Int32))).toInt) := by rw [ev51]; exact (i_sub (rfl : x2_23.toInt = x2_23.toInt) (rfl : (ga σ17 0 (r44 + (1 : Int32))).toInt = (ga σ17 0 (r44 + (1 : Int32))).toInt) (by omega))
          refine lv_istore_n (lv' := [(2, .int v51), (0, .ref (g.2.1 99)), (3, .int x3_23)]) hx hb dX6_reaches_51 rfl hl (by decide) rfl (fun ls hl => ?_)
          refine lv_iinc (v := (x3_23 + (1 : Int32))) (lv' := [(3, .int (x3_23 + (1 : Int32))), (2, .int v51), (0, .ref (g.2.1 99))]) hx hb dX6_reaches_52 hl (k := 2) rfl rfl (by decide) rfl (fun ls hl => ?_)
          refine lv_goto (tgt := 23) hx hb dX6_reaches_55 (by decide) ?_
          have tt3 : (x3_23 + (1 : Int32)).toInt = (x3_23.toInt + (1)) := (i_add (rfl : x3_23.toInt = x3_23.toInt) zl1 (by omega))
          have s3 : isum (qf σ17) (x3_23 + (1 : Int32)).toInt.toNat = isum (qf σ17) x3_23.toInt.toNat + qf σ17 x3_23.toInt.toNat := by rw [show (x3_23 + (1 : Int32)).toInt.toNat = x3_23.toInt.toNat + 1 by rw [i_add (a := x3_23) rfl zl1 (by omega)]; omega]; rfl
          exact ih v51 (x3_23 + (1 : Int32)) _ _ _  (by first | assumption | omega) (by omega) h (lv_sub hl [2, 1, 0] rfl) (fun x2_23' x3_23' H locs ls en hI h hl => kk x2_23' x3_23' H locs ls ((show f_X6_reaches_L23 σ17 (n + 1) x2_23 x3_23 = f_X6_reaches_L23 σ17 n v51 (x3_23 + (1 : Int32)) from (by have er29 := er29.symm; subst er29; have er44 := er44.symm; subst er44; have ev51 := ev51.symm; subst ev51; exact ((if_neg c35).trans rfl))).trans en) hI h hl)
    refine hL23 (7) r17 (0 : Int32) _ _ _  ⟨by omega, by omega, by omega, by omega, by rw [hs17]; show r17.toInt + 0 < _; omega⟩ (by omega) h (lv_sub hl [3, 1, 0] rfl) (fun x2_23e x3_23e H locs ls eL23 hI23 h hl => ?_)
    have ex2_23e : x2_23e = (f_X6_reaches_L23 σ17 (7) r17 (0 : Int32)).1 := by rw [eL23]
    have ex3_23e : x3_23e = (f_X6_reaches_L23 σ17 (7) r17 (0 : Int32)).2 := by rw [eL23]
    refine lv_aload_n hx hb dX6_reaches_58 rfl (lv_at hl 0 rfl) ?_
    refine lv_iload_n hx hb dX6_reaches_59 rfl (lv_at hl 1 rfl) ?_
    refine M_callz (As := [.int x3_23e]) (rest := []) 1 C h (k_X6_dines l g σ17 x3_23e (by first | assumption | omega) (by first | assumption | omega) (by first | assumption | omega)) (lw_V q2228 q2230 qs138 q152 q2231) rfl rfl (by decide +kernel) ⟨Nat.le_of_ble_eq_true rfl, Nat.le_of_ble_eq_true rfl⟩ rfl hl.1 rfl (Nat.le_of_ble_eq_true rfl) ⟨Nat.le_of_ble_eq_true rfl, Nat.le_of_ble_eq_true rfl⟩ dX6_reaches_60 (fun r60 σ60 H locs eσ60 er60 br60 hE60 h => ?_)
    have hE60 : ((ga σ60 0 (0 : Int32)).toInt = (ga σ17 0 (0 : Int32)).toInt) ∧ ((ga σ60 0 (2 : Int32)).toInt = (ga σ17 0 (2 : Int32)).toInt) ∧ (∀ j : Int32, 130 ≤ j.toInt → ga σ60 0 j = ga σ17 0 j) ∧ ((gi σ60 29).toInt = (gi σ17 29).toInt) ∧ ((ga σ60 0 (9 : Int32)).toInt = (ga σ17 0 (9 : Int32)).toInt) ∧ (∀ x : Int32, (0 ≤ x.toInt ∧ x.toInt ≤ 5) → ga σ60 0 ((f_X6_personRow x) + (1 : Int32)) = ga σ17 0 ((f_X6_personRow x) + (1 : Int32))) ∧ ((gi σ60 28).toInt = (gi σ17 28).toInt) ∧ (MFr σ17 σ60) := hE60
    obtain ⟨hpq_60, hdq_60, hY_60, hrq_60, hsq_60, hQq_60, hdq28_60, hLF_60⟩ := hE60
    have hNEW : (0 ≤ (ga σ60 0 (0 : Int32)).toInt ∧ (ga σ60 0 (0 : Int32)).toInt ≤ 6) ∧ (0 ≤ (ga σ60 0 (2 : Int32)).toInt ∧ (ga σ60 0 (2 : Int32)).toInt ≤ 16) ∧ (0 ≤ (gi σ60 28).toInt ∧ (gi σ60 28).toInt ≤ 65535) ∧ (QR σ60) ∧ ((ga σ60 0 (0 : Int32)).toInt = (ga σ 0 (0 : Int32)).toInt) ∧ ((ga σ60 0 (2 : Int32)).toInt = (ga σ 0 (2 : Int32)).toInt) ∧ (∀ j : Int32, 130 ≤ j.toInt → ga σ60 0 j = ga σ 0 j) ∧ ((gi σ60 29).toInt = (gi σ 29).toInt) ∧ ((ga σ60 0 (9 : Int32)).toInt = (ga σ 0 (9 : Int32)).toInt) ∧ (∀ x : Int32, (0 ≤ x.toInt ∧ x.toInt ≤ 5) → ga σ60 0 ((f_X6_personRow x) + (1 : Int32)) = ga σ 0 ((f_X6_personRow x) + (1 : Int32))) ∧ (MFr σ σ60) := ⟨(by first | assumption | omega), (by first | assumption | omega), (by first | assumption | omega), (fun x hx => by rw [hQq_60 x hx]; exact hQR x hx), (by first | assumption | omega), (by first | assumption | omega), (fun j hj => (hY_60 j hj).trans (hY j hj)), (by first | assumption | omega), (by first | assumption | omega), (fun j hj => (hQq_60 j hj).trans (hQq j hj)), (Fr.tr hLF hLF_60)⟩
    obtain ⟨hp, hd, hdr, hQR, hpq, hdq, hY, hrq, hsq, hQq, hLF⟩ := hNEW
    have he : f_X6_reaches σ = (σ60, r60) := (by have er2 := er2.symm; subst er2; have er5 := er5.symm; subst er5; have eσ17 := eσ17.symm; subst eσ17; have er17 := er17.symm; subst er17; have ex2_23e := ex2_23e.symm; subst ex2_23e; have ex3_23e := ex3_23e.symm; subst ex3_23e; have eσ60 := eσ60.symm; subst eσ60; have er60 := er60.symm; subst er60; exact ((if_neg c10).trans rfl))
    exact M_retz C h hr hlocks (congrArg Prod.fst he) (congrArg Prod.snd he) br60 ⟨hpq, hdq, hY, hrq, hsq, hQq, hLF, (by first | assumption | omega | (unfold Hd; omega))⟩ dX6_reaches_63
  · have i10 := c_eq c10
    refine lv_iconst (v := 0) hx hb dX6_reaches_13 (by decide) ?_
    have he : f_X6_reaches σ = (σ, (0 : Int32)) := (by have er2 := er2.symm; subst er2; have er5 := er5.symm; subst er5; exact ((if_pos c10).trans rfl))
    exact M_retz C h hr hlocks (congrArg Prod.fst he) (congrArg Prod.snd he) (Or.inl rfl) ⟨hpq, hdq, hY, hrq, hsq, hQq, hLF, (by first | assumption | omega | (unfold Hd; omega))⟩ dX6_reaches_14
def f_X6_does (σ : MS) (p1 : Int32) : MS × Int32 := (let v8 := (ga σ 0 (p1 + (1 : Int32))); let v17 := (ga σ 0 (p1 + (2 : Int32))); if (ga σ 0 p1) = (17 : Int32) then (if v8 = (-1 : Int32) then ((let z66 := (f_X6_reaches σ); let σ66 := z66.1; let r66 := z66.2; (σ66, r66))) else ((let z74 := (f_X6_dines σ v8); let σ74 := z74.1; let r74 := z74.2; (σ74, r74)))) else (if (ga σ 0 p1) = (18 : Int32) then ((let z81 := (f_X6_duels σ v8 v17); let σ81 := z81.1; let r81 := z81.2; (σ81, r81))) else (if (ga σ 0 p1) = (19 : Int32) then ((let z96 := (f_X6_lends σ v8 v17 (ga σ 0 (p1 + (3 : Int32)))); let σ96 := z96.1; let r96 := z96.2; (σ96, r96))) else (if (ga σ 0 p1) = (20 : Int32) then ((let σ111 := (f_X6_gifts σ v8 v17 (ga σ 0 (p1 + (3 : Int32)))); (σ111, (1 : Int32)))) else (if (ga σ 0 p1) = (21 : Int32) then ((let z117 := (f_X6_rounds σ); let σ117 := z117.1; let r117 := z117.2; if r117 = (-1 : Int32) then ((σ117, (0 : Int32))) else ((let σ135 := sa σ117 31 (3 : Int32) ((ga σ117 31 (3 : Int32)) + (1 : Int32)); (σ135, (1 : Int32)))))) else ((σ, (1 : Int32))))))))
set_option maxHeartbeats 4000000 in
set_option maxRecDepth 100000 in
theorem k_X6_does (l : Launch) (g : GE) (σ : MS) (p1 : Int32) (hp : 0 ≤ (ga σ 0 (0 : Int32)).toInt ∧ (ga σ 0 (0 : Int32)).toInt ≤ 6) (hd : 0 ≤ (ga σ 0 (2 : Int32)).toInt ∧ (ga σ 0 (2 : Int32)).toInt ≤ 16) (hdr : 0 ≤ (gi σ 28).toInt ∧ (gi σ 28).toInt ≤ 65535) (hQR : QR σ) (hrw : RW σ p1) (h1d : 130 ≤ p1.toInt ∧ p1.toInt ≤ 490) : Met l yX6_does (ws_ yX6_does cX6_does 4 (some .boolean)) ({ frames := 7, cells := 0, slots := 0, locals := 159 } : Room) (mPc g σ [.int p1]) (mQz g (f_X6_does σ p1).1 (f_X6_does σ p1).2 (fun u r => ((ga u 0 (0 : Int32)).toInt = (ga σ 0 (0 : Int32)).toInt) ∧ ((ga u 0 (2 : Int32)).toInt = (ga σ 0 (2 : Int32)).toInt) ∧ (∀ j : Int32, 130 ≤ j.toInt → ga u 0 j = ga σ 0 j) ∧ ((gi u 29).toInt = (gi σ 29).toInt) ∧ ((ga u 0 (9 : Int32)).toInt = (ga σ 0 (9 : Int32)).toInt) ∧ (∀ x : Int32, (0 ≤ x.toInt ∧ x.toInt ≤ 5) → ga u 0 ((f_X6_personRow x) + (1 : Int32)) = ga σ 0 ((f_X6_personRow x) + (1 : Int32))) ∧ (MFr σ u) ∧ (0 ≤ (gi u 28).toInt ∧ (gi u 28).toInt ≤ 65535))) 0 0 (mA g) := by
  refine met_M (by decide) rfl (Nat.le_of_ble_eq_true rfl) ?_
  intro p e s m args below meth c C hr hlocks h ls hl
  have hx := C.1.1
  have hb := C.1.2.1
  have hml := C.1.2.2.1
  have hown := C.1.2.2.2.1
  have hts := C.1.2.2.2.2
  have hl : lv_has ls 4 [(0, .ref (g.2.1 99)), (1, .int p1)] := hl
  have hpq : (ga σ 0 (0 : Int32)).toInt = (ga σ 0 (0 : Int32)).toInt := rfl
  have hdq : (ga σ 0 (2 : Int32)).toInt = (ga σ 0 (2 : Int32)).toInt := rfl
  have hY : ∀ j : Int32, 130 ≤ j.toInt → ga σ 0 j = ga σ 0 j := fun _ _ => rfl
  have hrq : (gi σ 29).toInt = (gi σ 29).toInt := rfl
  have hsq : (ga σ 0 (9 : Int32)).toInt = (ga σ 0 (9 : Int32)).toInt := rfl
  have hQq : ∀ x : Int32, (0 ≤ x.toInt ∧ x.toInt ≤ 5) → ga σ 0 ((f_X6_personRow x) + (1 : Int32)) = ga σ 0 ((f_X6_personRow x) + (1 : Int32)) := fun _ _ => rfl
  have hLF : MFr σ σ := Fr.rf
  have zlm1 : (-1 : Int32).toInt = -1 := rfl
  have zl0 : (0 : Int32).toInt = 0 := rfl
  have zl1 : (1 : Int32).toInt = 1 := rfl
  have zl2 : (2 : Int32).toInt = 2 := rfl
  have zl3 : (3 : Int32).toInt = 3 := rfl
  have zl17 : (17 : Int32).toInt = 17 := rfl
  have zl18 : (18 : Int32).toInt = 18 := rfl
  have zl19 : (19 : Int32).toInt = 19 := rfl
  have zl20 : (20 : Int32).toInt = 20 := rfl
  have zl21 : (21 : Int32).toInt = 21 := rfl
  refine lv_aload_n hx hb dX6_does_0 rfl (lv_at hl 0 rfl) ?_
  refine Mg_0 C h dX6_does_1 ?_
  refine lv_iload_n hx hb dX6_does_4 rfl (lv_at hl 1 rfl) ?_
  refine lv_iconst (v := 1) hx hb dX6_does_5 (by decide) ?_
  refine lv_iadd hx hb dX6_does_6 ?_
  refine Ml_0 C h (ix_of (i_add (rfl : p1.toInt = p1.toInt) zl1 (by omega)) (by omega)) dX6_does_7 ?_
  refine lv_topi (fun v8 ev8 => ?_)
  refine lv_istore_n (lv' := [(2, .int v8), (0, .ref (g.2.1 99)), (1, .int p1)]) hx hb dX6_does_8 rfl hl (by decide) rfl (fun ls hl => ?_)
  refine lv_aload_n hx hb dX6_does_9 rfl (lv_at hl 1 rfl) ?_
  refine Mg_0 C h dX6_does_10 ?_
  refine lv_iload_n hx hb dX6_does_13 rfl (lv_at hl 2 rfl) ?_
  refine lv_iconst (v := 2) hx hb dX6_does_14 (by decide) ?_
  refine lv_iadd hx hb dX6_does_15 ?_
  refine Ml_0 C h (ix_of (i_add (rfl : p1.toInt = p1.toInt) zl2 (by omega)) (by omega)) dX6_does_16 ?_
  refine lv_topi (fun v17 ev17 => ?_)
  refine lv_istore_n (lv' := [(3, .int v17), (2, .int v8), (0, .ref (g.2.1 99)), (1, .int p1)]) hx hb dX6_does_17 rfl hl (by decide) rfl (fun ls hl => ?_)
  have w8 : v8.toInt = (ga σ 0 (p1 + (1 : Int32))).toInt := by rw [ev8]
  have w17 : v17.toInt = (ga σ 0 (p1 + (2 : Int32))).toInt := by rw [ev17]
  obtain ⟨ra, rb, rc, rd⟩ := hrw
  refine lv_aload_n hx hb dX6_does_18 rfl (lv_at hl 2 rfl) ?_
  refine Mg_0 C h dX6_does_19 ?_
  refine lv_iload_n hx hb dX6_does_22 rfl (lv_at hl 3 rfl) ?_
  refine Ml_0 C h (ix_of (rfl : p1.toInt = p1.toInt) (by omega)) dX6_does_23 ?_
  by_cases c24_17 : (ga σ 0 p1) = (17 : Int32)
  · refine lv_tableIn (off := 36) (tgt := 60) hx hb dX6_does_24 (by rw [c24_17]; decide) (by rw [c24_17]; decide) (by rw [c24_17]; rfl) (by decide) ?_
    have i24_17 := c_eq c24_17
    refine lv_iload_n hx hb dX6_does_60 rfl (lv_at hl 1 rfl) ?_
    refine lv_iconst (v := -1) hx hb dX6_does_61 (by decide) ?_
    refine lv_icmp_ne (tgt := 72) hx hb dX6_does_62 (by decide) (fun c62 => ?_) (fun c62 => ?_)
    · have i62 := c_ne c62
      refine lv_aload_n hx hb dX6_does_72 rfl (lv_at hl 2 rfl) ?_
      refine lv_iload_n hx hb dX6_does_73 rfl (lv_at hl 1 rfl) ?_
      refine M_callz (As := [.int v8]) (rest := []) 1 C h (k_X6_dines l g σ v8 (by first | assumption | omega) (by first | assumption | omega) (by first | assumption | omega)) (lw_V q2228 q2230 qs138 q152 q2231) rfl rfl (by decide +kernel) ⟨Nat.le_of_ble_eq_true rfl, Nat.le_of_ble_eq_true rfl⟩ rfl hl.1 rfl (Nat.le_of_ble_eq_true rfl) ⟨Nat.le_of_ble_eq_true rfl, Nat.le_of_ble_eq_true rfl⟩ dX6_does_74 (fun r74 σ74 H locs eσ74 er74 br74 hE74 h => ?_)
      have hE74 : ((ga σ74 0 (0 : Int32)).toInt = (ga σ 0 (0 : Int32)).toInt) ∧ ((ga σ74 0 (2 : Int32)).toInt = (ga σ 0 (2 : Int32)).toInt) ∧ (∀ j : Int32, 130 ≤ j.toInt → ga σ74 0 j = ga σ 0 j) ∧ ((gi σ74 29).toInt = (gi σ 29).toInt) ∧ ((ga σ74 0 (9 : Int32)).toInt = (ga σ 0 (9 : Int32)).toInt) ∧ (∀ x : Int32, (0 ≤ x.toInt ∧ x.toInt ≤ 5) → ga σ74 0 ((f_X6_personRow x) + (1 : Int32)) = ga σ 0 ((f_X6_personRow x) + (1 : Int32))) ∧ ((gi σ74 28).toInt = (gi σ 28).toInt) ∧ (MFr σ σ74) := hE74
      obtain ⟨hpq_74, hdq_74, hY_74, hrq_74, hsq_74, hQq_74, hdq28_74, hLF_74⟩ := hE74
      have hNEW : (0 ≤ (ga σ74 0 (0 : Int32)).toInt ∧ (ga σ74 0 (0 : Int32)).toInt ≤ 6) ∧ (0 ≤ (ga σ74 0 (2 : Int32)).toInt ∧ (ga σ74 0 (2 : Int32)).toInt ≤ 16) ∧ (0 ≤ (gi σ74 28).toInt ∧ (gi σ74 28).toInt ≤ 65535) ∧ (QR σ74) ∧ ((ga σ74 0 (0 : Int32)).toInt = (ga σ 0 (0 : Int32)).toInt) ∧ ((ga σ74 0 (2 : Int32)).toInt = (ga σ 0 (2 : Int32)).toInt) ∧ (∀ j : Int32, 130 ≤ j.toInt → ga σ74 0 j = ga σ 0 j) ∧ ((gi σ74 29).toInt = (gi σ 29).toInt) ∧ ((ga σ74 0 (9 : Int32)).toInt = (ga σ 0 (9 : Int32)).toInt) ∧ (∀ x : Int32, (0 ≤ x.toInt ∧ x.toInt ≤ 5) → ga σ74 0 ((f_X6_personRow x) + (1 : Int32)) = ga σ 0 ((f_X6_personRow x) + (1 : Int32))) ∧ (MFr σ σ74) := ⟨(by first | assumption | omega), (by first | assumption | omega), (by first | assumption | omega), (fun x hx => by rw [hQq_74 x hx]; exact hQR x hx), (by first | assumption | omega), (by first | assumption | omega), (fun j hj => (hY_74 j hj).trans (hY j hj)), (by first | assumption | omega), (by first | assumption | omega), (fun j hj => (hQq_74 j hj).trans (hQq j hj)), (Fr.tr hLF hLF_74)⟩
      obtain ⟨hp, hd, hdr, hQR, hpq, hdq, hY, hrq, hsq, hQq, hLF⟩ := hNEW
      have he : f_X6_does σ p1 = (σ74, r74) := (by have ev8 := ev8.symm; subst ev8; have ev17 := ev17.symm; subst ev17; have eσ74 := eσ74.symm; subst eσ74; have er74 := er74.symm; subst er74; exact ((if_pos c24_17).trans ((if_neg c62).trans rfl)))
      exact M_retz C h hr hlocks (congrArg Prod.fst he) (congrArg Prod.snd he) br74 ⟨hpq, hdq, hY, hrq, hsq, hQq, hLF, (by first | assumption | omega | (unfold Hd; omega))⟩ dX6_does_77
    · have i62 := c_eq c62
      refine lv_aload_n hx hb dX6_does_65 rfl (lv_at hl 2 rfl) ?_
      refine M_callz (As := []) (rest := []) 0 C h (k_X6_reaches l g σ (by first | assumption | omega) (by first | assumption | omega) (by first | assumption | omega) (by first | assumption | omega)) (lw_V q2219 q2221 qs136 q152 q2222) rfl rfl (by decide +kernel) ⟨Nat.le_of_ble_eq_true rfl, Nat.le_of_ble_eq_true rfl⟩ rfl hl.1 rfl (Nat.le_of_ble_eq_true rfl) ⟨Nat.le_of_ble_eq_true rfl, Nat.le_of_ble_eq_true rfl⟩ dX6_does_66 (fun r66 σ66 H locs eσ66 er66 br66 hE66 h => ?_)
      have hE66 : ((ga σ66 0 (0 : Int32)).toInt = (ga σ 0 (0 : Int32)).toInt) ∧ ((ga σ66 0 (2 : Int32)).toInt = (ga σ 0 (2 : Int32)).toInt) ∧ (∀ j : Int32, 130 ≤ j.toInt → ga σ66 0 j = ga σ 0 j) ∧ ((gi σ66 29).toInt = (gi σ 29).toInt) ∧ ((ga σ66 0 (9 : Int32)).toInt = (ga σ 0 (9 : Int32)).toInt) ∧ (∀ x : Int32, (0 ≤ x.toInt ∧ x.toInt ≤ 5) → ga σ66 0 ((f_X6_personRow x) + (1 : Int32)) = ga σ 0 ((f_X6_personRow x) + (1 : Int32))) ∧ (MFr σ σ66) ∧ (0 ≤ (gi σ66 28).toInt ∧ (gi σ66 28).toInt ≤ 65535) := hE66
      obtain ⟨hpq_66, hdq_66, hY_66, hrq_66, hsq_66, hQq_66, hLF_66, hdr_66⟩ := hE66
      have hNEW : (0 ≤ (ga σ66 0 (0 : Int32)).toInt ∧ (ga σ66 0 (0 : Int32)).toInt ≤ 6) ∧ (0 ≤ (ga σ66 0 (2 : Int32)).toInt ∧ (ga σ66 0 (2 : Int32)).toInt ≤ 16) ∧ (0 ≤ (gi σ66 28).toInt ∧ (gi σ66 28).toInt ≤ 65535) ∧ (QR σ66) ∧ ((ga σ66 0 (0 : Int32)).toInt = (ga σ 0 (0 : Int32)).toInt) ∧ ((ga σ66 0 (2 : Int32)).toInt = (ga σ 0 (2 : Int32)).toInt) ∧ (∀ j : Int32, 130 ≤ j.toInt → ga σ66 0 j = ga σ 0 j) ∧ ((gi σ66 29).toInt = (gi σ 29).toInt) ∧ ((ga σ66 0 (9 : Int32)).toInt = (ga σ 0 (9 : Int32)).toInt) ∧ (∀ x : Int32, (0 ≤ x.toInt ∧ x.toInt ≤ 5) → ga σ66 0 ((f_X6_personRow x) + (1 : Int32)) = ga σ 0 ((f_X6_personRow x) + (1 : Int32))) ∧ (MFr σ σ66) := ⟨(by first | assumption | omega), (by first | assumption | omega), (by first | assumption | omega), (fun x hx => by rw [hQq_66 x hx]; exact hQR x hx), (by first | assumption | omega), (by first | assumption | omega), (fun j hj => (hY_66 j hj).trans (hY j hj)), (by first | assumption | omega), (by first | assumption | omega), (fun j hj => (hQq_66 j hj).trans (hQq j hj)), (Fr.tr hLF hLF_66)⟩
      obtain ⟨hp, hd, hdr, hQR, hpq, hdq, hY, hrq, hsq, hQq, hLF⟩ := hNEW
      refine lv_goto (tgt := 77) hx hb dX6_does_69 (by decide) ?_
      have he : f_X6_does σ p1 = (σ66, r66) := (by have ev8 := ev8.symm; subst ev8; have ev17 := ev17.symm; subst ev17; have eσ66 := eσ66.symm; subst eσ66; have er66 := er66.symm; subst er66; exact ((if_pos c24_17).trans ((if_pos c62).trans rfl)))
      exact M_retz C h hr hlocks (congrArg Prod.fst he) (congrArg Prod.snd he) br66 ⟨hpq, hdq, hY, hrq, hsq, hQq, hLF, (by first | assumption | omega | (unfold Hd; omega))⟩ dX6_does_77
  · have i24_17 := c_ne c24_17
    by_cases c24_18 : (ga σ 0 p1) = (18 : Int32)
    · refine lv_tableIn (off := 54) (tgt := 78) hx hb dX6_does_24 (by rw [c24_18]; decide) (by rw [c24_18]; decide) (by rw [c24_18]; rfl) (by decide) ?_
      have i24_18 := c_eq c24_18
      refine lv_aload_n hx hb dX6_does_78 rfl (lv_at hl 2 rfl) ?_
      refine lv_iload_n hx hb dX6_does_79 rfl (lv_at hl 1 rfl) ?_
      refine lv_iload_n hx hb dX6_does_80 rfl (lv_at hl 0 rfl) ?_
      refine M_callz (As := [.int v8, .int v17]) (rest := []) 2 C h (k_X6_duels l g σ v8 v17 (by first | assumption | omega) (by first | assumption | omega) (by first | assumption | omega) (by first | assumption | omega) (by first | assumption | omega)) (lw_V q2232 q2234 qs139 q152 q2235) rfl rfl (by decide +kernel) ⟨Nat.le_of_ble_eq_true rfl, Nat.le_of_ble_eq_true rfl⟩ rfl hl.1 rfl (Nat.le_of_ble_eq_true rfl) ⟨Nat.le_of_ble_eq_true rfl, Nat.le_of_ble_eq_true rfl⟩ dX6_does_81 (fun r81 σ81 H locs eσ81 er81 br81 hE81 h => ?_)
      have hE81 : ((ga σ81 0 (0 : Int32)).toInt = (ga σ 0 (0 : Int32)).toInt) ∧ ((ga σ81 0 (2 : Int32)).toInt = (ga σ 0 (2 : Int32)).toInt) ∧ (∀ j : Int32, 130 ≤ j.toInt → ga σ81 0 j = ga σ 0 j) ∧ ((gi σ81 29).toInt = (gi σ 29).toInt) ∧ ((ga σ81 0 (9 : Int32)).toInt = (ga σ 0 (9 : Int32)).toInt) ∧ (∀ x : Int32, (0 ≤ x.toInt ∧ x.toInt ≤ 5) → ga σ81 0 ((f_X6_personRow x) + (1 : Int32)) = ga σ 0 ((f_X6_personRow x) + (1 : Int32))) ∧ (MFr σ σ81) ∧ (0 ≤ (gi σ81 28).toInt ∧ (gi σ81 28).toInt ≤ 65535) := hE81
      obtain ⟨hpq_81, hdq_81, hY_81, hrq_81, hsq_81, hQq_81, hLF_81, hdr_81⟩ := hE81
      have hNEW : (0 ≤ (ga σ81 0 (0 : Int32)).toInt ∧ (ga σ81 0 (0 : Int32)).toInt ≤ 6) ∧ (0 ≤ (ga σ81 0 (2 : Int32)).toInt ∧ (ga σ81 0 (2 : Int32)).toInt ≤ 16) ∧ (0 ≤ (gi σ81 28).toInt ∧ (gi σ81 28).toInt ≤ 65535) ∧ (QR σ81) ∧ ((ga σ81 0 (0 : Int32)).toInt = (ga σ 0 (0 : Int32)).toInt) ∧ ((ga σ81 0 (2 : Int32)).toInt = (ga σ 0 (2 : Int32)).toInt) ∧ (∀ j : Int32, 130 ≤ j.toInt → ga σ81 0 j = ga σ 0 j) ∧ ((gi σ81 29).toInt = (gi σ 29).toInt) ∧ ((ga σ81 0 (9 : Int32)).toInt = (ga σ 0 (9 : Int32)).toInt) ∧ (∀ x : Int32, (0 ≤ x.toInt ∧ x.toInt ≤ 5) → ga σ81 0 ((f_X6_personRow x) + (1 : Int32)) = ga σ 0 ((f_X6_personRow x) + (1 : Int32))) ∧ (MFr σ σ81) := ⟨(by first | assumption | omega), (by first | assumption | omega), (by first | assumption | omega), (fun x hx => by rw [hQq_81 x hx]; exact hQR x hx), (by first | assumption | omega), (by first | assumption | omega), (fun j hj => (hY_81 j hj).trans (hY j hj)), (by first | assumption | omega), (by first | assumption | omega), (fun j hj => (hQq_81 j hj).trans (hQq j hj)), (Fr.tr hLF hLF_81)⟩
      obtain ⟨hp, hd, hdr, hQR, hpq, hdq, hY, hrq, hsq, hQq, hLF⟩ := hNEW
      have he : f_X6_does σ p1 = (σ81, r81) := (by have ev8 := ev8.symm; subst ev8; have ev17 := ev17.symm; subst ev17; have eσ81 := eσ81.symm; subst eσ81; have er81 := er81.symm; subst er81; exact ((if_neg c24_17).trans ((if_pos c24_18).trans rfl)))
      exact M_retz C h hr hlocks (congrArg Prod.fst he) (congrArg Prod.snd he) br81 ⟨hpq, hdq, hY, hrq, hsq, hQq, hLF, (by first | assumption | omega | (unfold Hd; omega))⟩ dX6_does_84
    · have i24_18 := c_ne c24_18
      by_cases c24_19 : (ga σ 0 p1) = (19 : Int32)
      · refine lv_tableIn (off := 61) (tgt := 85) hx hb dX6_does_24 (by rw [c24_19]; decide) (by rw [c24_19]; decide) (by rw [c24_19]; rfl) (by decide) ?_
        have i24_19 := c_eq c24_19
        refine lv_aload_n hx hb dX6_does_85 rfl (lv_at hl 2 rfl) ?_
        refine lv_iload_n hx hb dX6_does_86 rfl (lv_at hl 1 rfl) ?_
        refine lv_iload_n hx hb dX6_does_87 rfl (lv_at hl 0 rfl) ?_
        refine lv_aload_n hx hb dX6_does_88 rfl (lv_at hl 2 rfl) ?_
        refine Mg_0 C h dX6_does_89 ?_
        refine lv_iload_n hx hb dX6_does_92 rfl (lv_at hl 3 rfl) ?_
        refine lv_iconst (v := 3) hx hb dX6_does_93 (by decide) ?_
        refine lv_iadd hx hb dX6_does_94 ?_
        refine Ml_0 C h (ix_of (i_add (rfl : p1.toInt = p1.toInt) zl3 (by omega)) (by omega)) dX6_does_95 ?_
        refine M_callz (As := [.int v8, .int v17, .int (ga σ 0 (p1 + (3 : Int32)))]) (rest := []) 3 C h (k_X6_lends l g σ v8 v17 (ga σ 0 (p1 + (3 : Int32))) (by first | assumption | omega) (by first | assumption | omega) (by first | assumption | omega) (by first | assumption | omega)) (lw_V q2064 q2066 qs121 q152 q2067) rfl rfl (by decide +kernel) ⟨Nat.le_of_ble_eq_true rfl, Nat.le_of_ble_eq_true rfl⟩ rfl hl.1 rfl (Nat.le_of_ble_eq_true rfl) ⟨Nat.le_of_ble_eq_true rfl, Nat.le_of_ble_eq_true rfl⟩ dX6_does_96 (fun r96 σ96 H locs eσ96 er96 br96 hE96 h => ?_)
        have hE96 : ((ga σ96 0 (0 : Int32)).toInt = (ga σ 0 (0 : Int32)).toInt) ∧ ((ga σ96 0 (2 : Int32)).toInt = (ga σ 0 (2 : Int32)).toInt) ∧ (∀ j : Int32, 130 ≤ j.toInt → ga σ96 0 j = ga σ 0 j) ∧ ((gi σ96 29).toInt = (gi σ 29).toInt) ∧ ((ga σ96 0 (9 : Int32)).toInt = (ga σ 0 (9 : Int32)).toInt) ∧ (∀ x : Int32, (0 ≤ x.toInt ∧ x.toInt ≤ 5) → ga σ96 0 ((f_X6_personRow x) + (1 : Int32)) = ga σ 0 ((f_X6_personRow x) + (1 : Int32))) ∧ ((gi σ96 28).toInt = (gi σ 28).toInt) ∧ (MFr σ σ96) := hE96
        obtain ⟨hpq_96, hdq_96, hY_96, hrq_96, hsq_96, hQq_96, hdq28_96, hLF_96⟩ := hE96
        have hNEW : (0 ≤ (ga σ96 0 (0 : Int32)).toInt ∧ (ga σ96 0 (0 : Int32)).toInt ≤ 6) ∧ (0 ≤ (ga σ96 0 (2 : Int32)).toInt ∧ (ga σ96 0 (2 : Int32)).toInt ≤ 16) ∧ (0 ≤ (gi σ96 28).toInt ∧ (gi σ96 28).toInt ≤ 65535) ∧ (QR σ96) ∧ ((ga σ96 0 (0 : Int32)).toInt = (ga σ 0 (0 : Int32)).toInt) ∧ ((ga σ96 0 (2 : Int32)).toInt = (ga σ 0 (2 : Int32)).toInt) ∧ (∀ j : Int32, 130 ≤ j.toInt → ga σ96 0 j = ga σ 0 j) ∧ ((gi σ96 29).toInt = (gi σ 29).toInt) ∧ ((ga σ96 0 (9 : Int32)).toInt = (ga σ 0 (9 : Int32)).toInt) ∧ (∀ x : Int32, (0 ≤ x.toInt ∧ x.toInt ≤ 5) → ga σ96 0 ((f_X6_personRow x) + (1 : Int32)) = ga σ 0 ((f_X6_personRow x) + (1 : Int32))) ∧ (MFr σ σ96) := ⟨(by first | assumption | omega), (by first | assumption | omega), (by first | assumption | omega), (fun x hx => by rw [hQq_96 x hx]; exact hQR x hx), (by first | assumption | omega), (by first | assumption | omega), (fun j hj => (hY_96 j hj).trans (hY j hj)), (by first | assumption | omega), (by first | assumption | omega), (fun j hj => (hQq_96 j hj).trans (hQq j hj)), (Fr.tr hLF hLF_96)⟩
        obtain ⟨hp, hd, hdr, hQR, hpq, hdq, hY, hrq, hsq, hQq, hLF⟩ := hNEW
        have he : f_X6_does σ p1 = (σ96, r96) := (by have ev8 := ev8.symm; subst ev8; have ev17 := ev17.symm; subst ev17; have eσ96 := eσ96.symm; subst eσ96; have er96 := er96.symm; subst er96; exact ((if_neg c24_17).trans ((if_neg c24_18).trans ((if_pos c24_19).trans rfl))))
        exact M_retz C h hr hlocks (congrArg Prod.fst he) (congrArg Prod.snd he) br96 ⟨hpq, hdq, hY, hrq, hsq, hQq, hLF, (by first | assumption | omega | (unfold Hd; omega))⟩ dX6_does_99
      · have i24_19 := c_ne c24_19
        by_cases c24_20 : (ga σ 0 p1) = (20 : Int32)
        · refine lv_tableIn (off := 76) (tgt := 100) hx hb dX6_does_24 (by rw [c24_20]; decide) (by rw [c24_20]; decide) (by rw [c24_20]; rfl) (by decide) ?_
          have i24_20 := c_eq c24_20
          refine lv_aload_n hx hb dX6_does_100 rfl (lv_at hl 2 rfl) ?_
          refine lv_iload_n hx hb dX6_does_101 rfl (lv_at hl 1 rfl) ?_
          refine lv_iload_n hx hb dX6_does_102 rfl (lv_at hl 0 rfl) ?_
          refine lv_aload_n hx hb dX6_does_103 rfl (lv_at hl 2 rfl) ?_
          refine Mg_0 C h dX6_does_104 ?_
          refine lv_iload_n hx hb dX6_does_107 rfl (lv_at hl 3 rfl) ?_
          refine lv_iconst (v := 3) hx hb dX6_does_108 (by decide) ?_
          refine lv_iadd hx hb dX6_does_109 ?_
          refine Ml_0 C h (ix_of (i_add (rfl : p1.toInt = p1.toInt) zl3 (by omega)) (by omega)) dX6_does_110 ?_
          refine M_callv (As := [.int v8, .int v17, .int (ga σ 0 (p1 + (3 : Int32)))]) (rest := []) 3 C h (k_X6_gifts l g σ v8 v17 (ga σ 0 (p1 + (3 : Int32))) (by first | assumption | omega) (by first | assumption | omega) (by first | assumption | omega) (by first | assumption | omega)) (lw_V q2191 q2193 qs133 q152 q2194) rfl rfl (by decide +kernel) ⟨Nat.le_of_ble_eq_true rfl, Nat.le_of_ble_eq_true rfl⟩ rfl hl.1 rfl (Nat.le_of_ble_eq_true rfl) ⟨Nat.le_of_ble_eq_true rfl, Nat.le_of_ble_eq_true rfl⟩ dX6_does_111 (fun σ111 H locs eσ111 hE111 h => ?_)
          have hE111 : ((ga σ111 0 (0 : Int32)).toInt = (ga σ 0 (0 : Int32)).toInt) ∧ ((ga σ111 0 (2 : Int32)).toInt = (ga σ 0 (2 : Int32)).toInt) ∧ (∀ j : Int32, 130 ≤ j.toInt → ga σ111 0 j = ga σ 0 j) ∧ ((gi σ111 29).toInt = (gi σ 29).toInt) ∧ ((ga σ111 0 (9 : Int32)).toInt = (ga σ 0 (9 : Int32)).toInt) ∧ (∀ x : Int32, (0 ≤ x.toInt ∧ x.toInt ≤ 5) → ga σ111 0 ((f_X6_personRow x) + (1 : Int32)) = ga σ 0 ((f_X6_personRow x) + (1 : Int32))) ∧ ((gi σ111 28).toInt = (gi σ 28).toInt) ∧ (MFr σ σ111) := hE111
          obtain ⟨hpq_111, hdq_111, hY_111, hrq_111, hsq_111, hQq_111, hdq28_111, hLF_111⟩ := hE111
          have hNEW : (0 ≤ (ga σ111 0 (0 : Int32)).toInt ∧ (ga σ111 0 (0 : Int32)).toInt ≤ 6) ∧ (0 ≤ (ga σ111 0 (2 : Int32)).toInt ∧ (ga σ111 0 (2 : Int32)).toInt ≤ 16) ∧ (0 ≤ (gi σ111 28).toInt ∧ (gi σ111 28).toInt ≤ 65535) ∧ (QR σ111) ∧ ((ga σ111 0 (0 : Int32)).toInt = (ga σ 0 (0 : Int32)).toInt) ∧ ((ga σ111 0 (2 : Int32)).toInt = (ga σ 0 (2 : Int32)).toInt) ∧ (∀ j : Int32, 130 ≤ j.toInt → ga σ111 0 j = ga σ 0 j) ∧ ((gi σ111 29).toInt = (gi σ 29).toInt) ∧ ((ga σ111 0 (9 : Int32)).toInt = (ga σ 0 (9 : Int32)).toInt) ∧ (∀ x : Int32, (0 ≤ x.toInt ∧ x.toInt ≤ 5) → ga σ111 0 ((f_X6_personRow x) + (1 : Int32)) = ga σ 0 ((f_X6_personRow x) + (1 : Int32))) ∧ (MFr σ σ111) := ⟨(by first | assumption | omega), (by first | assumption | omega), (by first | assumption | omega), (fun x hx => by rw [hQq_111 x hx]; exact hQR x hx), (by first | assumption | omega), (by first | assumption | omega), (fun j hj => (hY_111 j hj).trans (hY j hj)), (by first | assumption | omega), (by first | assumption | omega), (fun j hj => (hQq_111 j hj).trans (hQq j hj)), (Fr.tr hLF hLF_111)⟩
          obtain ⟨hp, hd, hdr, hQR, hpq, hdq, hY, hrq, hsq, hQq, hLF⟩ := hNEW
          refine lv_iconst (v := 1) hx hb dX6_does_114 (by decide) ?_
          have he : f_X6_does σ p1 = (σ111, (1 : Int32)) := (by have ev8 := ev8.symm; subst ev8; have ev17 := ev17.symm; subst ev17; have eσ111 := eσ111.symm; subst eσ111; exact ((if_neg c24_17).trans ((if_neg c24_18).trans ((if_neg c24_19).trans ((if_pos c24_20).trans rfl)))))
          exact M_retz C h hr hlocks (congrArg Prod.fst he) (congrArg Prod.snd he) (Or.inr rfl) ⟨hpq, hdq, hY, hrq, hsq, hQq, hLF, (by first | assumption | omega | (unfold Hd; omega))⟩ dX6_does_115
        · have i24_20 := c_ne c24_20
          by_cases c24_21 : (ga σ 0 p1) = (21 : Int32)
          · refine lv_tableIn (off := 92) (tgt := 116) hx hb dX6_does_24 (by rw [c24_21]; decide) (by rw [c24_21]; decide) (by rw [c24_21]; rfl) (by decide) ?_
            have i24_21 := c_eq c24_21
            refine lv_aload_n hx hb dX6_does_116 rfl (lv_at hl 2 rfl) ?_
            refine M_calli (As := []) (rest := []) 0 C h (k_X6_rounds l g σ (by first | assumption | omega) (by first | assumption | omega)) (lw_V q2150 q2152 qs130 q152 q2153) rfl rfl (by decide +kernel) ⟨Nat.le_of_ble_eq_true rfl, Nat.le_of_ble_eq_true rfl⟩ rfl hl.1 rfl (Nat.le_of_ble_eq_true rfl) ⟨Nat.le_of_ble_eq_true rfl, Nat.le_of_ble_eq_true rfl⟩ dX6_does_117 (fun r117 σ117 H locs eσ117 er117 hE117 h => ?_)
            have hE117 : ((ga σ117 0 (0 : Int32)).toInt = (ga σ 0 (0 : Int32)).toInt) ∧ ((ga σ117 0 (2 : Int32)).toInt = (ga σ 0 (2 : Int32)).toInt) ∧ (∀ j : Int32, 130 ≤ j.toInt → ga σ117 0 j = ga σ 0 j) ∧ ((gi σ117 29).toInt = (gi σ 29).toInt) ∧ ((ga σ117 0 (9 : Int32)).toInt = (ga σ 0 (9 : Int32)).toInt) ∧ (∀ x : Int32, (0 ≤ x.toInt ∧ x.toInt ≤ 5) → ga σ117 0 ((f_X6_personRow x) + (1 : Int32)) = ga σ 0 ((f_X6_personRow x) + (1 : Int32))) ∧ ((gi σ117 28).toInt = (gi σ 28).toInt) ∧ (MFr σ σ117) := hE117
            obtain ⟨hpq_117, hdq_117, hY_117, hrq_117, hsq_117, hQq_117, hdq28_117, hLF_117⟩ := hE117
            have hNEW : (0 ≤ (ga σ117 0 (0 : Int32)).toInt ∧ (ga σ117 0 (0 : Int32)).toInt ≤ 6) ∧ (0 ≤ (ga σ117 0 (2 : Int32)).toInt ∧ (ga σ117 0 (2 : Int32)).toInt ≤ 16) ∧ (0 ≤ (gi σ117 28).toInt ∧ (gi σ117 28).toInt ≤ 65535) ∧ (QR σ117) ∧ ((ga σ117 0 (0 : Int32)).toInt = (ga σ 0 (0 : Int32)).toInt) ∧ ((ga σ117 0 (2 : Int32)).toInt = (ga σ 0 (2 : Int32)).toInt) ∧ (∀ j : Int32, 130 ≤ j.toInt → ga σ117 0 j = ga σ 0 j) ∧ ((gi σ117 29).toInt = (gi σ 29).toInt) ∧ ((ga σ117 0 (9 : Int32)).toInt = (ga σ 0 (9 : Int32)).toInt) ∧ (∀ x : Int32, (0 ≤ x.toInt ∧ x.toInt ≤ 5) → ga σ117 0 ((f_X6_personRow x) + (1 : Int32)) = ga σ 0 ((f_X6_personRow x) + (1 : Int32))) ∧ (MFr σ σ117) := ⟨(by first | assumption | omega), (by first | assumption | omega), (by first | assumption | omega), (fun x hx => by rw [hQq_117 x hx]; exact hQR x hx), (by first | assumption | omega), (by first | assumption | omega), (fun j hj => (hY_117 j hj).trans (hY j hj)), (by first | assumption | omega), (by first | assumption | omega), (fun j hj => (hQq_117 j hj).trans (hQq j hj)), (Fr.tr hLF hLF_117)⟩
            obtain ⟨hp, hd, hdr, hQR, hpq, hdq, hY, hrq, hsq, hQq, hLF⟩ := hNEW
            refine lv_iconst (v := -1) hx hb dX6_does_120 (by decide) ?_
            refine lv_icmp_ne (tgt := 126) hx hb dX6_does_121 (by decide) (fun c121 => ?_) (fun c121 => ?_)
            · have i121 := c_ne c121
              refine lv_aload_n hx hb dX6_does_126 rfl (lv_at hl 2 rfl) ?_
              refine Mg_31 C h dX6_does_127 ?_
              refine lv_iconst (v := 3) hx hb dX6_does_130 (by decide) ?_
              refine lv_dup2_11 hx hb dX6_does_131 rfl rfl ?_
              refine Ml_31 C h (ix_of zl3 (by omega)) dX6_does_132 ?_
              refine lv_iconst (v := 1) hx hb dX6_does_133 (by decide) ?_
              refine lv_iadd hx hb dX6_does_134 ?_
              refine Ms_31 C h (ix_of zl3 (by omega)) dX6_does_135 (fun σ135 H locs eσ135 h => ?_)
              have hNEW : (0 ≤ (ga σ135 0 (0 : Int32)).toInt ∧ (ga σ135 0 (0 : Int32)).toInt ≤ 6) ∧ (0 ≤ (ga σ135 0 (2 : Int32)).toInt ∧ (ga σ135 0 (2 : Int32)).toInt ≤ 16) ∧ (0 ≤ (gi σ135 28).toInt ∧ (gi σ135 28).toInt ≤ 65535) ∧ (QR σ135) ∧ ((ga σ135 0 (0 : Int32)).toInt = (ga σ 0 (0 : Int32)).toInt) ∧ ((ga σ135 0 (2 : Int32)).toInt = (ga σ 0 (2 : Int32)).toInt) ∧ (∀ j : Int32, 130 ≤ j.toInt → ga σ135 0 j = ga σ 0 j) ∧ ((gi σ135 29).toInt = (gi σ 29).toInt) ∧ ((ga σ135 0 (9 : Int32)).toInt = (ga σ 0 (9 : Int32)).toInt) ∧ (∀ x : Int32, (0 ≤ x.toInt ∧ x.toInt ≤ 5) → ga σ135 0 ((f_X6_personRow x) + (1 : Int32)) = ga σ 0 ((f_X6_personRow x) + (1 : Int32))) ∧ (MFr σ σ135) := ⟨(by rw [eσ135] <;> exact hp), (by rw [eσ135] <;> exact hd), (by rw [eσ135] <;> exact hdr), (by rw [eσ135] <;> exact hQR), (by rw [eσ135] <;> exact hpq), (by rw [eσ135] <;> exact hdq), (by rw [eσ135] <;> exact hY), (by rw [eσ135] <;> exact hrq), (by rw [eσ135] <;> exact hsq), (by rw [eσ135] <;> exact hQq), (by rw [eσ135]; exact (Fr_xa (by decide) (by decide) hLF))⟩
              clear hp hd hdr hQR hpq hdq hY hrq hsq hQq hLF
              obtain ⟨hp, hd, hdr, hQR, hpq, hdq, hY, hrq, hsq, hQq, hLF⟩ := hNEW
              refine lv_iconst (v := 1) hx hb dX6_does_136 (by decide) ?_
              have he : f_X6_does σ p1 = (σ135, (1 : Int32)) := (by have ev8 := ev8.symm; subst ev8; have ev17 := ev17.symm; subst ev17; have eσ117 := eσ117.symm; subst eσ117; have er117 := er117.symm; subst er117; have eσ135 := eσ135.symm; subst eσ135; exact ((if_neg c24_17).trans ((if_neg c24_18).trans ((if_neg c24_19).trans ((if_neg c24_20).trans ((if_pos c24_21).trans ((if_neg c121).trans rfl)))))))
              exact M_retz C h hr hlocks (congrArg Prod.fst he) (congrArg Prod.snd he) (Or.inr rfl) ⟨hpq, hdq, hY, hrq, hsq, hQq, hLF, (by first | assumption | omega | (unfold Hd; omega))⟩ dX6_does_137
            · have i121 := c_eq c121
              refine lv_iconst (v := 0) hx hb dX6_does_124 (by decide) ?_
              have he : f_X6_does σ p1 = (σ117, (0 : Int32)) := (by have ev8 := ev8.symm; subst ev8; have ev17 := ev17.symm; subst ev17; have eσ117 := eσ117.symm; subst eσ117; have er117 := er117.symm; subst er117; exact ((if_neg c24_17).trans ((if_neg c24_18).trans ((if_neg c24_19).trans ((if_neg c24_20).trans ((if_pos c24_21).trans ((if_pos c121).trans rfl)))))))
              exact M_retz C h hr hlocks (congrArg Prod.fst he) (congrArg Prod.snd he) (Or.inl rfl) ⟨hpq, hdq, hY, hrq, hsq, hQq, hLF, (by first | assumption | omega | (unfold Hd; omega))⟩ dX6_does_125
          · have i24_21 := c_ne c24_21
            refine lv_tableOut (tgt := 138) hx hb dX6_does_24 (by have y17 := c_ne c24_17; rw [show (17 : Int32).toInt = 17 from rfl] at y17; have y18 := c_ne c24_18; rw [show (18 : Int32).toInt = 18 from rfl] at y18; have y19 := c_ne c24_19; rw [show (19 : Int32).toInt = 19 from rfl] at y19; have y20 := c_ne c24_20; rw [show (20 : Int32).toInt = 20 from rfl] at y20; have y21 := c_ne c24_21; rw [show (21 : Int32).toInt = 21 from rfl] at y21; omega) (by decide) ?_
            refine lv_iconst (v := 1) hx hb dX6_does_138 (by decide) ?_
            have he : f_X6_does σ p1 = (σ, (1 : Int32)) := (by have ev8 := ev8.symm; subst ev8; have ev17 := ev17.symm; subst ev17; exact ((if_neg c24_17).trans ((if_neg c24_18).trans ((if_neg c24_19).trans ((if_neg c24_20).trans ((if_neg c24_21).trans rfl))))))
            exact M_retz C h hr hlocks (congrArg Prod.fst he) (congrArg Prod.snd he) (Or.inr rfl) ⟨hpq, hdq, hY, hrq, hsq, hQq, hLF, (by first | assumption | omega | (unfold Hd; omega))⟩ dX6_does_139
def f_X6_holds (σ : MS) (p1 : Int32) : Int32 := (let v10 := ((ga σ 0 p1) - (2400 : Int32)); let v19 := (ga σ 0 (p1 + (1 : Int32))); if v10 = (15 : Int32) then ((let r33 := (f_X6_turnOf σ (ga σ 0 (4 : Int32))); if r33 = v19 then ((1 : Int32)) else ((0 : Int32)))) else ((let z83_ : Int32 := (if v10 = (28 : Int32) then ((let r57 := (f_X6_personRow v19); (ga σ 0 (r57 + (5 : Int32))))) else ((let r79 := (f_X6_debtRow v19 (ga σ 0 (p1 + (2 : Int32)))); (ga σ 0 r79)))); let t0_83 := z83_; if (ga σ 0 (p1 + (5 : Int32))) = (60 : Int32) then (if (ga σ 0 (p1 + (3 : Int32))) ≤ t0_83 then ((0 : Int32)) else ((1 : Int32))) else (if (ga σ 0 (p1 + (5 : Int32))) = (62 : Int32) then (if t0_83 ≤ (ga σ 0 (p1 + (3 : Int32))) then ((0 : Int32)) else ((1 : Int32))) else (if t0_83 = (ga σ 0 (p1 + (3 : Int32))) then ((1 : Int32)) else ((0 : Int32)))))))
set_option maxHeartbeats 4000000 in
set_option maxRecDepth 100000 in
theorem k_X6_holds (l : Launch) (g : GE) (σ : MS) (p1 : Int32) (hp : 0 ≤ (ga σ 0 (0 : Int32)).toInt ∧ (ga σ 0 (0 : Int32)).toInt ≤ 6) (hrw : RW σ p1) (h1d : 130 ≤ p1.toInt ∧ p1.toInt ≤ 490) (h24 : 2400 ≤ (ga σ 0 p1).toInt) : Met l yX6_holds (ws_ yX6_holds cX6_holds 5 (some .boolean)) ({ frames := 4, cells := 0, slots := 0, locals := 89 } : Room) (mPc g σ [.int p1]) (mQz g σ (f_X6_holds σ p1) (fun u r => True)) 0 0 (mA g) := by
  refine met_M (by decide) rfl (Nat.le_of_ble_eq_true rfl) ?_
  intro p e s m args below meth c C hr hlocks h ls hl
  have hx := C.1.1
  have hb := C.1.2.1
  have hml := C.1.2.2.1
  have hown := C.1.2.2.2.1
  have hts := C.1.2.2.2.2
  have hl : lv_has ls 5 [(0, .ref (g.2.1 99)), (1, .int p1)] := hl
  have zl0 : (0 : Int32).toInt = 0 := rfl
  have zl1 : (1 : Int32).toInt = 1 := rfl
  have zl2 : (2 : Int32).toInt = 2 := rfl
  have zl3 : (3 : Int32).toInt = 3 := rfl
  have zl4 : (4 : Int32).toInt = 4 := rfl
  have zl5 : (5 : Int32).toInt = 5 := rfl
  have zl6 : (6 : Int32).toInt = 6 := rfl
  have zl8 : (8 : Int32).toInt = 8 := rfl
  have zl12 : (12 : Int32).toInt = 12 := rfl
  have zl15 : (15 : Int32).toInt = 15 := rfl
  have zl28 : (28 : Int32).toInt = 28 := rfl
  have zl60 : (60 : Int32).toInt = 60 := rfl
  have zl62 : (62 : Int32).toInt = 62 := rfl
  have zl92 : (92 : Int32).toInt = 92 := rfl
  have zl2400 : (2400 : Int32).toInt = 2400 := rfl
  have z31 := Int32.toInt_lt (ga σ 0 p1)
  refine lv_aload_n hx hb dX6_holds_0 rfl (lv_at hl 0 rfl) ?_
  refine Mg_0 C h dX6_holds_1 ?_
  refine lv_iload_n hx hb dX6_holds_4 rfl (lv_at hl 1 rfl) ?_
  refine Ml_0 C h (ix_of (rfl : p1.toInt = p1.toInt) (by omega)) dX6_holds_5 ?_
  refine lv_sipush (v := 2400) hx hb dX6_holds_6 (by decide) ?_
  refine lv_isub hx hb dX6_holds_9 ?_
  refine lv_topi (fun v10 ev10 => ?_)
  have tv10 : v10.toInt = ((ga σ 0 p1).toInt - (2400)) := by rw [ev10]; exact (i_sub (rfl : (ga σ 0 p1).toInt = (ga σ 0 p1).toInt) zl2400 (by omega))
  refine lv_istore_n (lv' := [(2, .int v10), (0, .ref (g.2.1 99)), (1, .int p1)]) hx hb dX6_holds_10 rfl hl (by decide) rfl (fun ls hl => ?_)
  refine lv_aload_n hx hb dX6_holds_11 rfl (lv_at hl 1 rfl) ?_
  refine Mg_0 C h dX6_holds_12 ?_
  refine lv_iload_n hx hb dX6_holds_15 rfl (lv_at hl 2 rfl) ?_
  refine lv_iconst (v := 1) hx hb dX6_holds_16 (by decide) ?_
  refine lv_iadd hx hb dX6_holds_17 ?_
  refine Ml_0 C h (ix_of (i_add (rfl : p1.toInt = p1.toInt) zl1 (by omega)) (by omega)) dX6_holds_18 ?_
  refine lv_topi (fun v19 ev19 => ?_)
  refine lv_istore_n (lv' := [(3, .int v19), (2, .int v10), (0, .ref (g.2.1 99)), (1, .int p1)]) hx hb dX6_holds_19 rfl hl (by decide) rfl (fun ls hl => ?_)
  have w19 : v19.toInt = (ga σ 0 (p1 + (1 : Int32))).toInt := by rw [ev19]
  obtain ⟨ra, rb, rc, rd⟩ := hrw
  have rb := rb h24
  refine lv_iload_n hx hb dX6_holds_20 rfl (lv_at hl 1 rfl) ?_
  refine lv_bipush (v := 15) hx hb dX6_holds_21 (by decide) ?_
  refine lv_icmp_ne (tgt := 46) hx hb dX6_holds_23 (by decide) (fun c23 => ?_) (fun c23 => ?_)
  · have i23 := c_ne c23
    refine lv_iload_n hx hb dX6_holds_46 rfl (lv_at hl 1 rfl) ?_
    refine lv_bipush (v := 28) hx hb dX6_holds_47 (by decide) ?_
    have j83 : ∀ (t0_83 : Int32) (H : Heap) (locs : List Loc) (ls : Array Slot) (ej83 : (if v10 = (28 : Int32) then ((let r57 := (f_X6_personRow v19); (ga σ 0 (r57 + (5 : Int32))))) else ((let r79 := (f_X6_debtRow v19 (ga σ 0 (p1 + (2 : Int32)))); (ga σ 0 r79)))) = t0_83) (h : MH g σ s H locs) (hl : lv_has ls 5 [(0, .ref (g.2.1 99)), (1, .int p1)]), W p l e ({ frames := 4, cells := 0, slots := 0, locals := 89 } : Room) s m args below meth c H locs 0 0 (MQ below (mQz g σ (f_X6_holds σ p1) (fun u r => True)) args s 0 0 (mA g)) (F0 m 83 ls [.int t0_83]) := by
      intro t0_83 H locs ls ej83 h hl
      have et0_83 := ej83.symm
      refine lv_istore (lv' := [(4, .int t0_83), (0, .ref (g.2.1 99)), (1, .int p1)]) hx hb dX6_holds_83 hl (by decide) rfl (fun ls hl => ?_)
      refine lv_aload_n hx hb dX6_holds_85 rfl (lv_at hl 1 rfl) ?_
      refine Mg_0 C h dX6_holds_86 ?_
      refine lv_iload_n hx hb dX6_holds_89 rfl (lv_at hl 2 rfl) ?_
      refine lv_iconst (v := 5) hx hb dX6_holds_90 (by decide) ?_
      refine lv_iadd hx hb dX6_holds_91 ?_
      refine Ml_0 C h (ix_of (i_add (rfl : p1.toInt = p1.toInt) zl5 (by omega)) (by omega)) dX6_holds_92 ?_
      refine lv_bipush (v := 60) hx hb dX6_holds_93 (by decide) ?_
      refine lv_icmp_ne (tgt := 119) hx hb dX6_holds_95 (by decide) (fun c95 => ?_) (fun c95 => ?_)
      · have i95 := c_ne c95
        refine lv_aload_n hx hb dX6_holds_119 rfl (lv_at hl 1 rfl) ?_
        refine Mg_0 C h dX6_holds_120 ?_
        refine lv_iload_n hx hb dX6_holds_123 rfl (lv_at hl 2 rfl) ?_
        refine lv_iconst (v := 5) hx hb dX6_holds_124 (by decide) ?_
        refine lv_iadd hx hb dX6_holds_125 ?_
        refine Ml_0 C h (ix_of (i_add (rfl : p1.toInt = p1.toInt) zl5 (by omega)) (by omega)) dX6_holds_126 ?_
        refine lv_bipush (v := 62) hx hb dX6_holds_127 (by decide) ?_
        refine lv_icmp_ne (tgt := 153) hx hb dX6_holds_129 (by decide) (fun c129 => ?_) (fun c129 => ?_)
        · have i129 := c_ne c129
          refine lv_iload hx hb dX6_holds_153 (lv_at hl 0 rfl) ?_
          refine lv_aload_n hx hb dX6_holds_155 rfl (lv_at hl 1 rfl) ?_
          refine Mg_0 C h dX6_holds_156 ?_
          refine lv_iload_n hx hb dX6_holds_159 rfl (lv_at hl 2 rfl) ?_
          refine lv_iconst (v := 3) hx hb dX6_holds_160 (by decide) ?_
          refine lv_iadd hx hb dX6_holds_161 ?_
          refine Ml_0 C h (ix_of (i_add (rfl : p1.toInt = p1.toInt) zl3 (by omega)) (by omega)) dX6_holds_162 ?_
          refine lv_icmp_ne (tgt := 170) hx hb dX6_holds_163 (by decide) (fun c163 => ?_) (fun c163 => ?_)
          · have i163 := c_ne c163
            refine lv_iconst (v := 0) hx hb dX6_holds_170 (by decide) ?_
            have he : f_X6_holds σ p1 = (0 : Int32) := (by have ev10 := ev10.symm; subst ev10; have ev19 := ev19.symm; subst ev19; have et0_83 := et0_83.symm; subst et0_83; exact ((if_neg c23).trans ((if_neg c95).trans ((if_neg c129).trans ((if_neg c163).trans rfl)))))
            exact M_retz C h hr hlocks rfl he (Or.inl rfl) trivial dX6_holds_171
          · have i163 := c_eq c163
            refine lv_iconst (v := 1) hx hb dX6_holds_166 (by decide) ?_
            refine lv_goto (tgt := 171) hx hb dX6_holds_167 (by decide) ?_
            have he : f_X6_holds σ p1 = (1 : Int32) := (by have ev10 := ev10.symm; subst ev10; have ev19 := ev19.symm; subst ev19; have et0_83 := et0_83.symm; subst et0_83; exact ((if_neg c23).trans ((if_neg c95).trans ((if_neg c129).trans ((if_pos c163).trans rfl)))))
            exact M_retz C h hr hlocks rfl he (Or.inr rfl) trivial dX6_holds_171
        · have i129 := c_eq c129
          refine lv_iload hx hb dX6_holds_132 (lv_at hl 0 rfl) ?_
          refine lv_aload_n hx hb dX6_holds_134 rfl (lv_at hl 1 rfl) ?_
          refine Mg_0 C h dX6_holds_135 ?_
          refine lv_iload_n hx hb dX6_holds_138 rfl (lv_at hl 2 rfl) ?_
          refine lv_iconst (v := 3) hx hb dX6_holds_139 (by decide) ?_
          refine lv_iadd hx hb dX6_holds_140 ?_
          refine Ml_0 C h (ix_of (i_add (rfl : p1.toInt = p1.toInt) zl3 (by omega)) (by omega)) dX6_holds_141 ?_
          refine lv_icmp_le (tgt := 149) hx hb dX6_holds_142 (by decide) (fun c142 => ?_) (fun c142 => ?_)
          · have i142 := c_le c142
            refine lv_iconst (v := 0) hx hb dX6_holds_149 (by decide) ?_
            refine lv_goto (tgt := 171) hx hb dX6_holds_150 (by decide) ?_
            have he : f_X6_holds σ p1 = (0 : Int32) := (by have ev10 := ev10.symm; subst ev10; have ev19 := ev19.symm; subst ev19; have et0_83 := et0_83.symm; subst et0_83; exact ((if_neg c23).trans ((if_neg c95).trans ((if_pos c129).trans ((if_pos c142).trans rfl)))))
            exact M_retz C h hr hlocks rfl he (Or.inl rfl) trivial dX6_holds_171
          · have i142 := c_nle c142
            refine lv_iconst (v := 1) hx hb dX6_holds_145 (by decide) ?_
            refine lv_goto (tgt := 171) hx hb dX6_holds_146 (by decide) ?_
            have he : f_X6_holds σ p1 = (1 : Int32) := (by have ev10 := ev10.symm; subst ev10; have ev19 := ev19.symm; subst ev19; have et0_83 := et0_83.symm; subst et0_83; exact ((if_neg c23).trans ((if_neg c95).trans ((if_pos c129).trans ((if_neg c142).trans rfl)))))
            exact M_retz C h hr hlocks rfl he (Or.inr rfl) trivial dX6_holds_171
      · have i95 := c_eq c95
        refine lv_iload hx hb dX6_holds_98 (lv_at hl 0 rfl) ?_
        refine lv_aload_n hx hb dX6_holds_100 rfl (lv_at hl 1 rfl) ?_
        refine Mg_0 C h dX6_holds_101 ?_
        refine lv_iload_n hx hb dX6_holds_104 rfl (lv_at hl 2 rfl) ?_
        refine lv_iconst (v := 3) hx hb dX6_holds_105 (by decide) ?_
        refine lv_iadd hx hb dX6_holds_106 ?_
        refine Ml_0 C h (ix_of (i_add (rfl : p1.toInt = p1.toInt) zl3 (by omega)) (by omega)) dX6_holds_107 ?_
        refine lv_icmp_ge (tgt := 115) hx hb dX6_holds_108 (by decide) (fun c108 => ?_) (fun c108 => ?_)
        · have i108 := c_le c108
          refine lv_iconst (v := 0) hx hb dX6_holds_115 (by decide) ?_
          refine lv_goto (tgt := 171) hx hb dX6_holds_116 (by decide) ?_
          have he : f_X6_holds σ p1 = (0 : Int32) := (by have ev10 := ev10.symm; subst ev10; have ev19 := ev19.symm; subst ev19; have et0_83 := et0_83.symm; subst et0_83; exact ((if_neg c23).trans ((if_pos c95).trans ((if_pos c108).trans rfl))))
          exact M_retz C h hr hlocks rfl he (Or.inl rfl) trivial dX6_holds_171
        · have i108 := c_nle c108
          refine lv_iconst (v := 1) hx hb dX6_holds_111 (by decide) ?_
          refine lv_goto (tgt := 171) hx hb dX6_holds_112 (by decide) ?_
          have he : f_X6_holds σ p1 = (1 : Int32) := (by have ev10 := ev10.symm; subst ev10; have ev19 := ev19.symm; subst ev19; have et0_83 := et0_83.symm; subst et0_83; exact ((if_neg c23).trans ((if_pos c95).trans ((if_neg c108).trans rfl))))
          exact M_retz C h hr hlocks rfl he (Or.inr rfl) trivial dX6_holds_171
    refine lv_icmp_ne (tgt := 66) hx hb dX6_holds_49 (by decide) (fun c49 => ?_) (fun c49 => ?_)
    · have i49 := c_ne c49
      refine lv_aload_n hx hb dX6_holds_66 rfl (lv_at hl 2 rfl) ?_
      refine Mg_0 C h dX6_holds_67 ?_
      refine lv_iload_n hx hb dX6_holds_70 rfl (lv_at hl 0 rfl) ?_
      refine lv_aload_n hx hb dX6_holds_71 rfl (lv_at hl 2 rfl) ?_
      refine Mg_0 C h dX6_holds_72 ?_
      refine lv_iload_n hx hb dX6_holds_75 rfl (lv_at hl 3 rfl) ?_
      refine lv_iconst (v := 2) hx hb dX6_holds_76 (by decide) ?_
      refine lv_iadd hx hb dX6_holds_77 ?_
      refine Ml_0 C h (ix_of (i_add (rfl : p1.toInt = p1.toInt) zl2 (by omega)) (by omega)) dX6_holds_78 ?_
      refine s_calli (As := [.int v19, .int (ga σ 0 (p1 + (2 : Int32)))]) (rest := [.ref (g.2.1 0)]) 2 C.1 (k_X6_debtRow l v19 (ga σ 0 (p1 + (2 : Int32)))) (lw_S q1970 q1971 q152 q1972) rfl rfl (by decide +kernel) ⟨Nat.le_of_ble_eq_true rfl, Nat.le_of_ble_eq_true rfl⟩ rfl hl.1 rfl (Nat.le_of_ble_eq_true rfl) ⟨Nat.le_of_ble_eq_true rfl, Nat.le_of_ble_eq_true rfl⟩ dX6_holds_79 h.2.2 (fun r79 H locs er79 hz1 hk1 hS1 => ?_)
      have h := h.same hk1 hS1
      clear hz1 hk1 hS1
      have tr79 : r79.toInt = (((92) + ((6) * v19.toInt)) + (ga σ 0 (p1 + (2 : Int32))).toInt) := by rw [er79]; exact (i_add (i_add zl92 (i_mul zl6 (rfl : v19.toInt = v19.toInt) (by omega)) (by omega)) (rfl : (ga σ 0 (p1 + (2 : Int32))).toInt = (ga σ 0 (p1 + (2 : Int32))).toInt) (by omega))
      refine Ml_0 C h (ix_of tr79 (by omega)) dX6_holds_82 ?_
      exact j83 _ _ _ _ (by have er79 := er79.symm; subst er79; exact ((if_neg c49).trans rfl)) h (lv_sub hl [2, 3] rfl)
    · have i49 := c_eq c49
      refine lv_aload_n hx hb dX6_holds_52 rfl (lv_at hl 2 rfl) ?_
      refine Mg_0 C h dX6_holds_53 ?_
      refine lv_iload_n hx hb dX6_holds_56 rfl (lv_at hl 0 rfl) ?_
      refine s_calli (As := [.int v19]) (rest := [.ref (g.2.1 0)]) 1 C.1 (k_X6_personRow l v19) (lw_S q1857 q1858 q152 q1859) rfl rfl (by decide +kernel) ⟨Nat.le_of_ble_eq_true rfl, Nat.le_of_ble_eq_true rfl⟩ rfl hl.1 rfl (Nat.le_of_ble_eq_true rfl) ⟨Nat.le_of_ble_eq_true rfl, Nat.le_of_ble_eq_true rfl⟩ dX6_holds_57 h.2.2 (fun r57 H locs er57 hz1 hk1 hS1 => ?_)
      have h := h.same hk1 hS1
      clear hz1 hk1 hS1
      have tr57 : r57.toInt = ((12) + ((8) * v19.toInt)) := by rw [er57]; exact (i_add zl12 (i_mul zl8 (rfl : v19.toInt = v19.toInt) (by omega)) (by omega))
      refine lv_iconst (v := 5) hx hb dX6_holds_60 (by decide) ?_
      refine lv_iadd hx hb dX6_holds_61 ?_
      refine Ml_0 C h (ix_of (i_add tr57 zl5 (by omega)) (by omega)) dX6_holds_62 ?_
      refine lv_goto (tgt := 83) hx hb dX6_holds_63 (by decide) ?_
      exact j83 _ _ _ _ (by have er57 := er57.symm; subst er57; exact ((if_pos c49).trans rfl)) h (lv_sub hl [2, 3] rfl)
  · have i23 := c_eq c23
    refine lv_aload_n hx hb dX6_holds_26 rfl (lv_at hl 2 rfl) ?_
    refine lv_aload_n hx hb dX6_holds_27 rfl (lv_at hl 2 rfl) ?_
    refine Mg_0 C h dX6_holds_28 ?_
    refine lv_iconst (v := 4) hx hb dX6_holds_31 (by decide) ?_
    refine Ml_0 C h (ix_of zl4 (by omega)) dX6_holds_32 ?_
    refine M_calli (As := [.int (ga σ 0 (4 : Int32))]) (rest := []) 1 C h (k_X6_turnOf l g σ (ga σ 0 (4 : Int32)) (by first | assumption | omega)) (lw_V q1978 q1980 qs110 q152 q1981) rfl rfl (by decide +kernel) ⟨Nat.le_of_ble_eq_true rfl, Nat.le_of_ble_eq_true rfl⟩ rfl hl.1 rfl (Nat.le_of_ble_eq_true rfl) ⟨Nat.le_of_ble_eq_true rfl, Nat.le_of_ble_eq_true rfl⟩ dX6_holds_33 (fun r33 σ33 H locs eσ33 er33 hE33 h => ?_)
    rw [eσ33] at h
    clear hE33
    clear eσ33
    refine lv_iload_n hx hb dX6_holds_36 rfl (lv_at hl 0 rfl) ?_
    refine lv_icmp_ne (tgt := 44) hx hb dX6_holds_37 (by decide) (fun c37 => ?_) (fun c37 => ?_)
    · have i37 := c_ne c37
      refine lv_iconst (v := 0) hx hb dX6_holds_44 (by decide) ?_
      have he : f_X6_holds σ p1 = (0 : Int32) := (by have ev10 := ev10.symm; subst ev10; have ev19 := ev19.symm; subst ev19; have er33 := er33.symm; subst er33; exact ((if_pos c23).trans ((if_neg c37).trans rfl)))
      exact M_retz C h hr hlocks rfl he (Or.inl rfl) trivial dX6_holds_45
    · have i37 := c_eq c37
      refine lv_iconst (v := 1) hx hb dX6_holds_40 (by decide) ?_
      refine lv_goto (tgt := 45) hx hb dX6_holds_41 (by decide) ?_
      have he : f_X6_holds σ p1 = (1 : Int32) := (by have ev10 := ev10.symm; subst ev10; have ev19 := ev19.symm; subst ev19; have er33 := er33.symm; subst er33; exact ((if_pos c23).trans ((if_pos c37).trans rfl)))
      exact M_retz C h hr hlocks rfl he (Or.inr rfl) trivial dX6_holds_45
def f_X6_lives_L12 : Nat → Int32 → MS → Int32 × MS
  | 0, x2_12, σL12 => (x2_12, σL12)
  | n + 1, x2_12, σL12 => if (5 : Int32) ≤ x2_12 then ((x2_12, σL12)) else ((let σ23 := sa σL12 31 x2_12 (0 : Int32); f_X6_lives_L12 n (x2_12 + (1 : Int32)) σ23))
def f_X6_lives_L32 : Nat → Int32 → MS → MS
  | 0, x2_32, σL32 => m00
  | n + 1, x2_32, σL32 => if (ga σL32 0 (9 : Int32)) ≤ x2_32 then (σL32) else (if (gi σL32 29) = (300 : Int32) then ((let σ59 := sa σL32 31 (4 : Int32) (1 : Int32); σ59)) else ((let v69 := ((130 : Int32) + ((6 : Int32) * x2_32)); let σ77 := si σL32 29 ((gi σL32 29) + (1 : Int32)); if (ga σ77 0 v69) = (27 : Int32) then (σ77) else ((let z101 := (f_X6_does σ77 v69); let σ101 := z101.1; let r101 := z101.2; (let z112_ : Int32 := (if r101 = (0 : Int32) then ((1 : Int32)) else ((0 : Int32))); let t0_112 := z112_; (let σ113 := sa σ101 31 (0 : Int32) ((ga σ77 31 (0 : Int32)) + t0_112); (let z141_ : MS := (if (ga σ113 0 v69) = (25 : Int32) then ((let σ140 := sa σ113 30 x2_32 ((ga σ113 0 (v69 + (1 : Int32))) - (1 : Int32)); σ140)) else (σ113)); let σJ141 := z141_; (let z178_ : Int32 := (if (ga σJ141 0 v69) < (2400 : Int32) then ((x2_32 + (1 : Int32))) else ((let r156 := (f_X6_holds σJ141 v69); if r156 = (0 : Int32) then (((ga σJ141 0 (v69 + (4 : Int32))) + (1 : Int32))) else ((x2_32 + (1 : Int32)))))); let t0_178 := z178_; (let z178 := (f_X6_behindEnds σJ141 t0_178); let σ178 := z178.1; let r178 := z178.2; f_X6_lives_L32 n r178 σ178))))))))))
def f_X6_lives (σ : MS) (p1 : Int32) : MS := (let σ2 := si σ 28 p1; let σ7 := si σ2 29 (0 : Int32); (let zL12 := f_X6_lives_L12 (6) (0 : Int32) σ7; let x2_12e := zL12.1; let σL12e := zL12.2; f_X6_lives_L32 (301) (0 : Int32) σL12e))
set_option maxHeartbeats 4000000 in
set_option maxRecDepth 100000 in
theorem k_X6_lives (l : Launch) (g : GE) (σ : MS) (p1 : Int32) (hp : 0 ≤ (ga σ 0 (0 : Int32)).toInt ∧ (ga σ 0 (0 : Int32)).toInt ≤ 6) (hd : 0 ≤ (ga σ 0 (2 : Int32)).toInt ∧ (ga σ 0 (2 : Int32)).toInt ≤ 16) (hQR : QR σ) (hyk : YOK σ) (hsd : 0 ≤ p1.toInt ∧ p1.toInt ≤ 65535) : Met l yX6_lives (ws_ yX6_lives cX6_lives 4 none) ({ frames := 8, cells := 0, slots := 0, locals := 182 } : Room) (mPc g σ [.int p1]) (mQv g (f_X6_lives σ p1) (fun u => ((ga u 0 (0 : Int32)).toInt = (ga σ 0 (0 : Int32)).toInt) ∧ ((ga u 0 (2 : Int32)).toInt = (ga σ 0 (2 : Int32)).toInt) ∧ (∀ j : Int32, 130 ≤ j.toInt → ga u 0 j = ga σ 0 j) ∧ ((ga u 0 (9 : Int32)).toInt = (ga σ 0 (9 : Int32)).toInt) ∧ (∀ x : Int32, (0 ≤ x.toInt ∧ x.toInt ≤ 5) → ga u 0 ((f_X6_personRow x) + (1 : Int32)) = ga σ 0 ((f_X6_personRow x) + (1 : Int32))) ∧ (MFr σ u))) 0 0 (mA g) := by
  refine met_M (by decide) rfl (Nat.le_of_ble_eq_true rfl) ?_
  intro p e s m args below meth c C hr hlocks h ls hl
  have hx := C.1.1
  have hb := C.1.2.1
  have hml := C.1.2.2.1
  have hown := C.1.2.2.2.1
  have hts := C.1.2.2.2.2
  have hl : lv_has ls 4 [(0, .ref (g.2.1 99)), (1, .int p1)] := hl
  have hpq : (ga σ 0 (0 : Int32)).toInt = (ga σ 0 (0 : Int32)).toInt := rfl
  have hdq : (ga σ 0 (2 : Int32)).toInt = (ga σ 0 (2 : Int32)).toInt := rfl
  have hY : ∀ j : Int32, 130 ≤ j.toInt → ga σ 0 j = ga σ 0 j := fun _ _ => rfl
  have hsq : (ga σ 0 (9 : Int32)).toInt = (ga σ 0 (9 : Int32)).toInt := rfl
  have hQq : ∀ x : Int32, (0 ≤ x.toInt ∧ x.toInt ≤ 5) → ga σ 0 ((f_X6_personRow x) + (1 : Int32)) = ga σ 0 ((f_X6_personRow x) + (1 : Int32)) := fun _ _ => rfl
  have hLF : MFr σ σ := Fr.rf
  have zl0 : (0 : Int32).toInt = 0 := rfl
  have zl1 : (1 : Int32).toInt = 1 := rfl
  have zl4 : (4 : Int32).toInt = 4 := rfl
  have zl5 : (5 : Int32).toInt = 5 := rfl
  have zl6 : (6 : Int32).toInt = 6 := rfl
  have zl9 : (9 : Int32).toInt = 9 := rfl
  have zl25 : (25 : Int32).toInt = 25 := rfl
  have zl27 : (27 : Int32).toInt = 27 := rfl
  have zl130 : (130 : Int32).toInt = 130 := rfl
  have zl300 : (300 : Int32).toInt = 300 := rfl
  have zl2400 : (2400 : Int32).toInt = 2400 := rfl
  refine lv_aload_n hx hb dX6_lives_0 rfl (lv_at hl 0 rfl) ?_
  refine lv_iload_n hx hb dX6_lives_1 rfl (lv_at hl 1 rfl) ?_
  refine Mp_28 C h dX6_lives_2 (fun σ2 H locs eσ2 h => ?_)
  have hNEW : (0 ≤ (ga σ2 0 (0 : Int32)).toInt ∧ (ga σ2 0 (0 : Int32)).toInt ≤ 6) ∧ (0 ≤ (ga σ2 0 (2 : Int32)).toInt ∧ (ga σ2 0 (2 : Int32)).toInt ≤ 16) ∧ (QR σ2) ∧ (YOK σ2) ∧ ((ga σ2 0 (0 : Int32)).toInt = (ga σ 0 (0 : Int32)).toInt) ∧ ((ga σ2 0 (2 : Int32)).toInt = (ga σ 0 (2 : Int32)).toInt) ∧ (∀ j : Int32, 130 ≤ j.toInt → ga σ2 0 j = ga σ 0 j) ∧ ((ga σ2 0 (9 : Int32)).toInt = (ga σ 0 (9 : Int32)).toInt) ∧ (∀ x : Int32, (0 ≤ x.toInt ∧ x.toInt ≤ 5) → ga σ2 0 ((f_X6_personRow x) + (1 : Int32)) = ga σ 0 ((f_X6_personRow x) + (1 : Int32))) ∧ (MFr σ σ2) := ⟨(by rw [eσ2] <;> exact hp), (by rw [eσ2] <;> exact hd), (by rw [eσ2] <;> exact hQR), (by rw [eσ2] <;> exact hyk), (by rw [eσ2] <;> exact hpq), (by rw [eσ2] <;> exact hdq), (by rw [eσ2] <;> exact hY), (by rw [eσ2] <;> exact hsq), (by rw [eσ2] <;> exact hQq), (by rw [eσ2]; exact (Fr_si (by decide) hLF))⟩
  obtain ⟨hp, hd, hQR, hyk, hpq, hdq, hY, hsq, hQq, hLF⟩ := hNEW
  have hdr : 0 ≤ (gi σ2 28).toInt ∧ (gi σ2 28).toInt ≤ 65535 := (by rw [eσ2]; exact hsd)
  refine lv_aload_n hx hb dX6_lives_5 rfl (lv_at hl 0 rfl) ?_
  refine lv_iconst (v := 0) hx hb dX6_lives_6 (by decide) ?_
  refine Mp_29 C h dX6_lives_7 (fun σ7 H locs eσ7 h => ?_)
  have hNEW : (0 ≤ (ga σ7 0 (0 : Int32)).toInt ∧ (ga σ7 0 (0 : Int32)).toInt ≤ 6) ∧ (0 ≤ (ga σ7 0 (2 : Int32)).toInt ∧ (ga σ7 0 (2 : Int32)).toInt ≤ 16) ∧ (QR σ7) ∧ (YOK σ7) ∧ ((ga σ7 0 (0 : Int32)).toInt = (ga σ 0 (0 : Int32)).toInt) ∧ ((ga σ7 0 (2 : Int32)).toInt = (ga σ 0 (2 : Int32)).toInt) ∧ (∀ j : Int32, 130 ≤ j.toInt → ga σ7 0 j = ga σ 0 j) ∧ ((ga σ7 0 (9 : Int32)).toInt = (ga σ 0 (9 : Int32)).toInt) ∧ (∀ x : Int32, (0 ≤ x.toInt ∧ x.toInt ≤ 5) → ga σ7 0 ((f_X6_personRow x) + (1 : Int32)) = ga σ 0 ((f_X6_personRow x) + (1 : Int32))) ∧ (MFr σ σ7) ∧ (0 ≤ (gi σ7 28).toInt ∧ (gi σ7 28).toInt ≤ 65535) := ⟨(by rw [eσ7] <;> exact hp), (by rw [eσ7] <;> exact hd), (by rw [eσ7] <;> exact hQR), (by rw [eσ7] <;> exact hyk), (by rw [eσ7] <;> exact hpq), (by rw [eσ7] <;> exact hdq), (by rw [eσ7] <;> exact hY), (by rw [eσ7] <;> exact hsq), (by rw [eσ7] <;> exact hQq), (by rw [eσ7]; exact (Fr_si (by decide) hLF)), (by rw [eσ7] <;> exact hdr)⟩
  clear hp hd hQR hyk hpq hdq hY hsq hQq hLF
  obtain ⟨hp, hd, hQR, hyk, hpq, hdq, hY, hsq, hQq, hLF, hdr⟩ := hNEW
  have hrs : 0 ≤ (gi σ7 29).toInt ∧ (gi σ7 29).toInt ≤ 300 := (by rw [eσ7]; show 0 ≤ (0 : Int32).toInt ∧ (0 : Int32).toInt ≤ 300; decide)
  refine lv_iconst (v := 0) hx hb dX6_lives_10 (by decide) ?_
  refine lv_istore_n (lv' := [(2, .int (0 : Int32)), (0, .ref (g.2.1 99)), (1, .int p1)]) hx hb dX6_lives_11 rfl hl (by decide) rfl (fun ls hl => ?_)
  have hL12 : ∀ (n : Nat) (x2_12 : Int32) (σL12 : MS) (H : Heap) (locs : List Loc) (ls : Array Slot), (0 ≤ (ga σL12 0 (0 : Int32)).toInt ∧ (ga σL12 0 (0 : Int32)).toInt ≤ 6) → (0 ≤ (ga σL12 0 (2 : Int32)).toInt ∧ (ga σL12 0 (2 : Int32)).toInt ≤ 16) → (QR σL12) → (YOK σL12) → ((ga σL12 0 (0 : Int32)).toInt = (ga σ 0 (0 : Int32)).toInt) → ((ga σL12 0 (2 : Int32)).toInt = (ga σ 0 (2 : Int32)).toInt) → (∀ j : Int32, 130 ≤ j.toInt → ga σL12 0 j = ga σ 0 j) → ((ga σL12 0 (9 : Int32)).toInt = (ga σ 0 (9 : Int32)).toInt) → (∀ x : Int32, (0 ≤ x.toInt ∧ x.toInt ≤ 5) → ga σL12 0 ((f_X6_personRow x) + (1 : Int32)) = ga σ 0 ((f_X6_personRow x) + (1 : Int32))) → (MFr σ σL12) → (0 ≤ (gi σL12 28).toInt ∧ (gi σL12 28).toInt ≤ 65535) → (0 ≤ (gi σL12 29).toInt ∧ (gi σL12 29).toInt ≤ 300) → (0 ≤ x2_12.toInt ∧ x2_12.toInt ≤ 5) → (5 - x2_12.toInt).toNat < n → MH g σL12 s H locs → lv_has ls 4 [(0, .ref (g.2.1 99)), (2, .int x2_12)] → (∀ (x2_12' : Int32) (σL12' : MS) (H : Heap) (locs : List Loc) (ls : Array Slot), f_X6_lives_L12 n x2_12 σL12 = (x2_12', σL12') → (0 ≤ (ga σL12' 0 (0 : Int32)).toInt ∧ (ga σL12' 0 (0 : Int32)).toInt ≤ 6) → (0 ≤ (ga σL12' 0 (2 : Int32)).toInt ∧ (ga σL12' 0 (2 : Int32)).toInt ≤ 16) → (QR σL12') → (YOK σL12') → ((ga σL12' 0 (0 : Int32)).toInt = (ga σ 0 (0 : Int32)).toInt) → ((ga σL12' 0 (2 : Int32)).toInt = (ga σ 0 (2 : Int32)).toInt) → (∀ j : Int32, 130 ≤ j.toInt → ga σL12' 0 j = ga σ 0 j) → ((ga σL12' 0 (9 : Int32)).toInt = (ga σ 0 (9 : Int32)).toInt) → (∀ x : Int32, (0 ≤ x.toInt ∧ x.toInt ≤ 5) → ga σL12' 0 ((f_X6_personRow x) + (1 : Int32)) = ga σ 0 ((f_X6_personRow x) + (1 : Int32))) → (MFr σ σL12') → (0 ≤ (gi σL12' 28).toInt ∧ (gi σL12' 28).toInt ≤ 65535) → (0 ≤ (gi σL12' 29).toInt ∧ (gi σL12' 29).toInt ≤ 300) → (0 ≤ x2_12'.toInt ∧ x2_12'.toInt ≤ 5) → MH g σL12' s H locs → lv_has ls 4 [(0, .ref (g.2.1 99))] → W p l e ({ frames := 8, cells := 0, slots := 0, locals := 182 } : Room) s m args below meth c H locs 0 0 (MQ below (mQv g (f_X6_lives σ p1) (fun u => ((ga u 0 (0 : Int32)).toInt = (ga σ 0 (0 : Int32)).toInt) ∧ ((ga u 0 (2 : Int32)).toInt = (ga σ 0 (2 : Int32)).toInt) ∧ (∀ j : Int32, 130 ≤ j.toInt → ga u 0 j = ga σ 0 j) ∧ ((ga u 0 (9 : Int32)).toInt = (ga σ 0 (9 : Int32)).toInt) ∧ (∀ x : Int32, (0 ≤ x.toInt ∧ x.toInt ≤ 5) → ga u 0 ((f_X6_personRow x) + (1 : Int32)) = ga σ 0 ((f_X6_personRow x) + (1 : Int32))) ∧ (MFr σ u))) args s 0 0 (mA g)) (F0 m 30 ls [])) → W p l e ({ frames := 8, cells := 0, slots := 0, locals := 182 } : Room) s m args below meth c H locs 0 0 (MQ below (mQv g (f_X6_lives σ p1) (fun u => ((ga u 0 (0 : Int32)).toInt = (ga σ 0 (0 : Int32)).toInt) ∧ ((ga u 0 (2 : Int32)).toInt = (ga σ 0 (2 : Int32)).toInt) ∧ (∀ j : Int32, 130 ≤ j.toInt → ga u 0 j = ga σ 0 j) ∧ ((ga u 0 (9 : Int32)).toInt = (ga σ 0 (9 : Int32)).toInt) ∧ (∀ x : Int32, (0 ≤ x.toInt ∧ x.toInt ≤ 5) → ga u 0 ((f_X6_personRow x) + (1 : Int32)) = ga σ 0 ((f_X6_personRow x) + (1 : Int32))) ∧ (MFr σ u))) args s 0 0 (mA g)) (F0 m 12 ls []) := by
    intro n
    induction n with
    | zero =>
      intro x2_12 σL12 H locs ls hp hd hQR hyk hpq hdq hY hsq hQq hLF hdr hrs _ hm; exact absurd hm (Nat.not_lt_zero _)
    | succ n ih =>
      intro x2_12 σL12 H locs ls hp hd hQR hyk hpq hdq hY hsq hQq hLF hdr hrs hI12 hm h hl kk
      refine lv_iload_n hx hb dX6_lives_12 rfl (lv_at hl 1 rfl) ?_
      refine lv_iconst (v := 5) hx hb dX6_lives_13 (by decide) ?_
      refine lv_icmp_ge (tgt := 30) hx hb dX6_lives_14 (by decide) (fun c14 => ?_) (fun c14 => ?_)
      · have i14 := c_le c14
        exact kk x2_12 σL12 _ _ _ (show f_X6_lives_L12 (n + 1) x2_12 σL12 = (x2_12, σL12) from (by exact ((if_pos c14).trans rfl))) hp hd hQR hyk hpq hdq hY hsq hQq hLF hdr hrs (by first | assumption | omega) h (lv_sub hl [0] rfl)
      · have i14 := c_nle c14
        refine lv_aload_n hx hb dX6_lives_17 rfl (lv_at hl 0 rfl) ?_
        refine Mg_31 C h dX6_lives_18 ?_
        refine lv_iload_n hx hb dX6_lives_21 rfl (lv_at hl 1 rfl) ?_
        refine lv_iconst (v := 0) hx hb dX6_lives_22 (by decide) ?_
        refine Ms_31 C h (ix_of (rfl : x2_12.toInt = x2_12.toInt) (by omega)) dX6_lives_23 (fun σ23 H locs eσ23 h => ?_)
        have hNEW : (0 ≤ (ga σ23 0 (0 : Int32)).toInt ∧ (ga σ23 0 (0 : Int32)).toInt ≤ 6) ∧ (0 ≤ (ga σ23 0 (2 : Int32)).toInt ∧ (ga σ23 0 (2 : Int32)).toInt ≤ 16) ∧ (QR σ23) ∧ (YOK σ23) ∧ ((ga σ23 0 (0 : Int32)).toInt = (ga σ 0 (0 : Int32)).toInt) ∧ ((ga σ23 0 (2 : Int32)).toInt = (ga σ 0 (2 : Int32)).toInt) ∧ (∀ j : Int32, 130 ≤ j.toInt → ga σ23 0 j = ga σ 0 j) ∧ ((ga σ23 0 (9 : Int32)).toInt = (ga σ 0 (9 : Int32)).toInt) ∧ (∀ x : Int32, (0 ≤ x.toInt ∧ x.toInt ≤ 5) → ga σ23 0 ((f_X6_personRow x) + (1 : Int32)) = ga σ 0 ((f_X6_personRow x) + (1 : Int32))) ∧ (MFr σ σ23) ∧ (0 ≤ (gi σ23 28).toInt ∧ (gi σ23 28).toInt ≤ 65535) ∧ (0 ≤ (gi σ23 29).toInt ∧ (gi σ23 29).toInt ≤ 300) := ⟨(by rw [eσ23] <;> exact hp), (by rw [eσ23] <;> exact hd), (by rw [eσ23] <;> exact hQR), (by rw [eσ23] <;> exact hyk), (by rw [eσ23] <;> exact hpq), (by rw [eσ23] <;> exact hdq), (by rw [eσ23] <;> exact hY), (by rw [eσ23] <;> exact hsq), (by rw [eσ23] <;> exact hQq), (by rw [eσ23]; exact (Fr_xa (by decide) (by decide) hLF)), (by rw [eσ23] <;> exact hdr), (by rw [eσ23] <;> exact hrs)⟩
        obtain ⟨hp, hd, hQR, hyk, hpq, hdq, hY, hsq, hQq, hLF, hdr, hrs⟩ := hNEW
        refine lv_iinc (v := (x2_12 + (1 : Int32))) (lv' := [(2, .int (x2_12 + (1 : Int32))), (0, .ref (g.2.1 99))]) hx hb dX6_lives_24 hl (k := 1) rfl rfl (by decide) rfl (fun ls hl => ?_)
        refine lv_goto (tgt := 12) hx hb dX6_lives_27 (by decide) ?_
        have tt2 : (x2_12 + (1 : Int32)).toInt = (x2_12.toInt + (1)) := (i_add (rfl : x2_12.toInt = x2_12.toInt) zl1 (by omega))
        exact ih (x2_12 + (1 : Int32)) σ23 _ _ _ hp hd hQR hyk hpq hdq hY hsq hQq hLF hdr hrs (by first | assumption | omega) (by omega) h (lv_sub hl [1, 0] rfl) (fun x2_12' σL12' H locs ls en hp hd hQR hyk hpq hdq hY hsq hQq hLF hdr hrs hI h hl => kk x2_12' σL12' H locs ls ((show f_X6_lives_L12 (n + 1) x2_12 σL12 = f_X6_lives_L12 n (x2_12 + (1 : Int32)) σ23 from (by have eσ23 := eσ23.symm; subst eσ23; exact ((if_neg c14).trans rfl))).trans en) hp hd hQR hyk hpq hdq hY hsq hQq hLF hdr hrs hI h hl)
  refine hL12 (6) (0 : Int32) σ7 _ _ _ hp hd hQR hyk hpq hdq hY hsq hQq hLF hdr hrs (by first | assumption | omega) (by omega) h (lv_sub hl [1, 0] rfl) (fun x2_12e σL12e H locs ls eL12 hp hd hQR hyk hpq hdq hY hsq hQq hLF hdr hrs hI12 h hl => ?_)
  have ex2_12e : x2_12e = (f_X6_lives_L12 (6) (0 : Int32) σ7).1 := by rw [eL12]
  have eσL12e : σL12e = (f_X6_lives_L12 (6) (0 : Int32) σ7).2 := by rw [eL12]
  refine lv_iconst (v := 0) hx hb dX6_lives_30 (by decide) ?_
  refine lv_istore_n (lv' := [(2, .int (0 : Int32)), (0, .ref (g.2.1 99))]) hx hb dX6_lives_31 rfl hl (by decide) rfl (fun ls hl => ?_)
  have hL32 : ∀ (n : Nat) (x2_32 : Int32) (σL32 : MS) (H : Heap) (locs : List Loc) (ls : Array Slot), (0 ≤ (ga σL32 0 (0 : Int32)).toInt ∧ (ga σL32 0 (0 : Int32)).toInt ≤ 6) → (0 ≤ (ga σL32 0 (2 : Int32)).toInt ∧ (ga σL32 0 (2 : Int32)).toInt ≤ 16) → (QR σL32) → (YOK σL32) → ((ga σL32 0 (0 : Int32)).toInt = (ga σ 0 (0 : Int32)).toInt) → ((ga σL32 0 (2 : Int32)).toInt = (ga σ 0 (2 : Int32)).toInt) → (∀ j : Int32, 130 ≤ j.toInt → ga σL32 0 j = ga σ 0 j) → ((ga σL32 0 (9 : Int32)).toInt = (ga σ 0 (9 : Int32)).toInt) → (∀ x : Int32, (0 ≤ x.toInt ∧ x.toInt ≤ 5) → ga σL32 0 ((f_X6_personRow x) + (1 : Int32)) = ga σ 0 ((f_X6_personRow x) + (1 : Int32))) → (MFr σ σL32) → (0 ≤ (gi σL32 28).toInt ∧ (gi σL32 28).toInt ≤ 65535) → (0 ≤ (gi σL32 29).toInt ∧ (gi σL32 29).toInt ≤ 300) → (0 ≤ x2_32.toInt ∧ x2_32.toInt ≤ 60) → (300 - (gi σL32 29).toInt).toNat < n → f_X6_lives σ p1 = f_X6_lives_L32 n x2_32 σL32 → MH g σL32 s H locs → lv_has ls 4 [(0, .ref (g.2.1 99)), (2, .int x2_32)] → W p l e ({ frames := 8, cells := 0, slots := 0, locals := 182 } : Room) s m args below meth c H locs 0 0 (MQ below (mQv g (f_X6_lives σ p1) (fun u => ((ga u 0 (0 : Int32)).toInt = (ga σ 0 (0 : Int32)).toInt) ∧ ((ga u 0 (2 : Int32)).toInt = (ga σ 0 (2 : Int32)).toInt) ∧ (∀ j : Int32, 130 ≤ j.toInt → ga u 0 j = ga σ 0 j) ∧ ((ga u 0 (9 : Int32)).toInt = (ga σ 0 (9 : Int32)).toInt) ∧ (∀ x : Int32, (0 ≤ x.toInt ∧ x.toInt ≤ 5) → ga u 0 ((f_X6_personRow x) + (1 : Int32)) = ga σ 0 ((f_X6_personRow x) + (1 : Int32))) ∧ (MFr σ u))) args s 0 0 (mA g)) (F0 m 32 ls []) := by
    intro n
    induction n with
    | zero =>
      intro x2_32 σL32 H locs ls hp hd hQR hyk hpq hdq hY hsq hQq hLF hdr hrs _ hm; exact absurd hm (Nat.not_lt_zero _)
    | succ n ih =>
      intro x2_32 σL32 H locs ls hp hd hQR hyk hpq hdq hY hsq hQq hLF hdr hrs hI32 hm hf32 h hl
      have hykk := hyk.1
      refine lv_iload_n hx hb dX6_lives_32 rfl (lv_at hl 1 rfl) ?_
      refine lv_aload_n hx hb dX6_lives_33 rfl (lv_at hl 0 rfl) ?_
      refine Mg_0 C h dX6_lives_34 ?_
      refine lv_bipush (v := 9) hx hb dX6_lives_37 (by decide) ?_
      refine Ml_0 C h (ix_of zl9 (by omega)) dX6_lives_39 ?_
      refine lv_icmp_ge (tgt := 185) hx hb dX6_lives_40 (by decide) (fun c40 => ?_) (fun c40 => ?_)
      · have i40 := c_le c40
        have he : f_X6_lives σ p1 = σL32 := (by exact (hf32.trans ((if_pos c40).trans rfl)))
        exact M_retv C h hr hlocks he ⟨hpq, hdq, hY, hsq, hQq, hLF⟩ dX6_lives_185
      · have i40 := c_nle c40
        refine lv_aload_n hx hb dX6_lives_43 rfl (lv_at hl 0 rfl) ?_
        refine Mg_29 C h dX6_lives_44 ?_
        refine lv_sipush (v := 300) hx hb dX6_lives_47 (by decide) ?_
        refine lv_icmp_ne (tgt := 61) hx hb dX6_lives_50 (by decide) (fun c50 => ?_) (fun c50 => ?_)
        · have i50 := c_ne c50
          refine lv_sipush (v := 130) hx hb dX6_lives_61 (by decide) ?_
          refine lv_bipush (v := 6) hx hb dX6_lives_64 (by decide) ?_
          refine lv_iload_n hx hb dX6_lives_66 rfl (lv_at hl 1 rfl) ?_
          refine lv_imul hx hb dX6_lives_67 ?_
          refine lv_iadd hx hb dX6_lives_68 ?_
          refine lv_topi (fun v69 ev69 => ?_)
          have tv69 : v69.toInt = ((130) + ((6) * x2_32.toInt)) := by rw [ev69]; exact (i_add zl130 (i_mul zl6 (rfl : x2_32.toInt = x2_32.toInt) (by omega)) (by omega))
          refine lv_istore_n (lv' := [(3, .int v69), (0, .ref (g.2.1 99)), (2, .int x2_32)]) hx hb dX6_lives_69 rfl hl (by decide) rfl (fun ls hl => ?_)
          refine lv_aload_n hx hb dX6_lives_70 rfl (lv_at hl 1 rfl) ?_
          refine lv_dup hx hb dX6_lives_71 rfl ?_
          refine Mg_29 C h dX6_lives_72 ?_
          refine lv_iconst (v := 1) hx hb dX6_lives_75 (by decide) ?_
          refine lv_iadd hx hb dX6_lives_76 ?_
          refine Mp_29 C h dX6_lives_77 (fun σ77 H locs eσ77 h => ?_)
          have hNEW : (0 ≤ (ga σ77 0 (0 : Int32)).toInt ∧ (ga σ77 0 (0 : Int32)).toInt ≤ 6) ∧ (0 ≤ (ga σ77 0 (2 : Int32)).toInt ∧ (ga σ77 0 (2 : Int32)).toInt ≤ 16) ∧ (QR σ77) ∧ (YOK σ77) ∧ ((ga σ77 0 (0 : Int32)).toInt = (ga σ 0 (0 : Int32)).toInt) ∧ ((ga σ77 0 (2 : Int32)).toInt = (ga σ 0 (2 : Int32)).toInt) ∧ (∀ j : Int32, 130 ≤ j.toInt → ga σ77 0 j = ga σ 0 j) ∧ ((ga σ77 0 (9 : Int32)).toInt = (ga σ 0 (9 : Int32)).toInt) ∧ (∀ x : Int32, (0 ≤ x.toInt ∧ x.toInt ≤ 5) → ga σ77 0 ((f_X6_personRow x) + (1 : Int32)) = ga σ 0 ((f_X6_personRow x) + (1 : Int32))) ∧ (MFr σ σ77) ∧ (0 ≤ (gi σ77 28).toInt ∧ (gi σ77 28).toInt ≤ 65535) ∧ (0 ≤ (gi σ77 29).toInt ∧ (gi σ77 29).toInt ≤ 300) := ⟨(by rw [eσ77] <;> exact hp), (by rw [eσ77] <;> exact hd), (by rw [eσ77] <;> exact hQR), (by rw [eσ77] <;> exact hyk), (by rw [eσ77] <;> exact hpq), (by rw [eσ77] <;> exact hdq), (by rw [eσ77] <;> exact hY), (by rw [eσ77] <;> exact hsq), (by rw [eσ77] <;> exact hQq), (by rw [eσ77]; exact (Fr_si (by decide) hLF)), (by rw [eσ77] <;> exact hdr), (by rw [eσ77]; show 0 ≤ ((gi σL32 29) + (1 : Int32)).toInt ∧ ((gi σL32 29) + (1 : Int32)).toInt ≤ 300; rw [i_add rfl zl1 (by omega)]; omega)⟩
          obtain ⟨hp, hd, hQR, hyk, hpq, hdq, hY, hsq, hQq, hLF, hdr, hrs⟩ := hNEW
          have hq29 : (gi σ77 29).toInt = (gi σL32 29).toInt + 1 := (by rw [eσ77]; exact i_add rfl zl1 (by omega))
          refine lv_aload_n hx hb dX6_lives_80 rfl (lv_at hl 1 rfl) ?_
          refine Mg_0 C h dX6_lives_81 ?_
          refine lv_iload_n hx hb dX6_lives_84 rfl (lv_at hl 0 rfl) ?_
          refine Ml_0 C h (ix_of tv69 (by omega)) dX6_lives_85 ?_
          refine lv_bipush (v := 27) hx hb dX6_lives_86 (by decide) ?_
          refine lv_icmp_ne (tgt := 92) hx hb dX6_lives_88 (by decide) (fun c88 => ?_) (fun c88 => ?_)
          · have i88 := c_ne c88
            refine lv_aload_n hx hb dX6_lives_92 rfl (lv_at hl 1 rfl) ?_
            refine Mg_31 C h dX6_lives_93 ?_
            refine lv_iconst (v := 0) hx hb dX6_lives_96 (by decide) ?_
            refine lv_dup2_11 hx hb dX6_lives_97 rfl rfl ?_
            refine Ml_31 C h (ix_of zl0 (by omega)) dX6_lives_98 ?_
            refine lv_aload_n hx hb dX6_lives_99 rfl (lv_at hl 1 rfl) ?_
            refine lv_iload_n hx hb dX6_lives_100 rfl (lv_at hl 0 rfl) ?_
            have hykk := hyk.1
            refine M_callz (As := [.int v69]) (rest := [.int (ga σ77 31 (0 : Int32)), .int (0 : Int32), .ref (g.2.1 31)]) 1 C h (k_X6_does l g σ77 v69 (by first | assumption | omega) (by first | assumption | omega) (by first | assumption | omega) (by first | assumption | omega) (by rw [ev69]; exact hyk.2 x2_32 (by omega) (by omega)) (by first | assumption | omega)) (lw_V q2215 q2217 qs135 q152 q2218) rfl rfl (by decide +kernel) ⟨Nat.le_of_ble_eq_true rfl, Nat.le_of_ble_eq_true rfl⟩ rfl hl.1 rfl (Nat.le_of_ble_eq_true rfl) ⟨Nat.le_of_ble_eq_true rfl, Nat.le_of_ble_eq_true rfl⟩ dX6_lives_101 (fun r101 σ101 H locs eσ101 er101 br101 hE101 h => ?_)
            have hE101 : ((ga σ101 0 (0 : Int32)).toInt = (ga σ77 0 (0 : Int32)).toInt) ∧ ((ga σ101 0 (2 : Int32)).toInt = (ga σ77 0 (2 : Int32)).toInt) ∧ (∀ j : Int32, 130 ≤ j.toInt → ga σ101 0 j = ga σ77 0 j) ∧ ((gi σ101 29).toInt = (gi σ77 29).toInt) ∧ ((ga σ101 0 (9 : Int32)).toInt = (ga σ77 0 (9 : Int32)).toInt) ∧ (∀ x : Int32, (0 ≤ x.toInt ∧ x.toInt ≤ 5) → ga σ101 0 ((f_X6_personRow x) + (1 : Int32)) = ga σ77 0 ((f_X6_personRow x) + (1 : Int32))) ∧ (MFr σ77 σ101) ∧ (0 ≤ (gi σ101 28).toInt ∧ (gi σ101 28).toInt ≤ 65535) := hE101
            obtain ⟨hpq_101, hdq_101, hY_101, hrq_101, hsq_101, hQq_101, hLF_101, hdr_101⟩ := hE101
            have hNEW : (0 ≤ (ga σ101 0 (0 : Int32)).toInt ∧ (ga σ101 0 (0 : Int32)).toInt ≤ 6) ∧ (0 ≤ (ga σ101 0 (2 : Int32)).toInt ∧ (ga σ101 0 (2 : Int32)).toInt ≤ 16) ∧ (QR σ101) ∧ (YOK σ101) ∧ ((ga σ101 0 (0 : Int32)).toInt = (ga σ 0 (0 : Int32)).toInt) ∧ ((ga σ101 0 (2 : Int32)).toInt = (ga σ 0 (2 : Int32)).toInt) ∧ (∀ j : Int32, 130 ≤ j.toInt → ga σ101 0 j = ga σ 0 j) ∧ ((ga σ101 0 (9 : Int32)).toInt = (ga σ 0 (9 : Int32)).toInt) ∧ (∀ x : Int32, (0 ≤ x.toInt ∧ x.toInt ≤ 5) → ga σ101 0 ((f_X6_personRow x) + (1 : Int32)) = ga σ 0 ((f_X6_personRow x) + (1 : Int32))) ∧ (MFr σ σ101) ∧ (0 ≤ (gi σ101 28).toInt ∧ (gi σ101 28).toInt ≤ 65535) ∧ (0 ≤ (gi σ101 29).toInt ∧ (gi σ101 29).toInt ≤ 300) ∧ ((gi σ101 29).toInt = (gi σL32 29).toInt + 1) := ⟨(by first | assumption | omega), (by first | assumption | omega), (fun x hx => by rw [hQq_101 x hx]; exact hQR x hx), (YOK_hY hY_101 hsq_101 hyk), (by first | assumption | omega), (by first | assumption | omega), (fun j hj => (hY_101 j hj).trans (hY j hj)), (by first | assumption | omega), (fun j hj => (hQq_101 j hj).trans (hQq j hj)), (Fr.tr hLF hLF_101), (by first | assumption | omega), (by first | assumption | omega), (by first | assumption | omega)⟩
            clear hp hd hQR hyk hpq hdq hY hsq hQq hLF hdr hrs
            obtain ⟨hp, hd, hQR, hyk, hpq, hdq, hY, hsq, hQq, hLF, hdr, hrs, hq29⟩ := hNEW
            have j112 : ∀ (t0_112 : Int32) (H : Heap) (locs : List Loc) (ls : Array Slot) (ej112 : (if r101 = (0 : Int32) then ((1 : Int32)) else ((0 : Int32))) = t0_112) (bt0_112 : t0_112 = 0 ∨ t0_112 = 1) (h : MH g σ101 s H locs) (hl : lv_has ls 4 [(0, .ref (g.2.1 99)), (2, .int x2_32), (3, .int v69)]), W p l e ({ frames := 8, cells := 0, slots := 0, locals := 182 } : Room) s m args below meth c H locs 0 0 (MQ below (mQv g (f_X6_lives σ p1) (fun u => ((ga u 0 (0 : Int32)).toInt = (ga σ 0 (0 : Int32)).toInt) ∧ ((ga u 0 (2 : Int32)).toInt = (ga σ 0 (2 : Int32)).toInt) ∧ (∀ j : Int32, 130 ≤ j.toInt → ga u 0 j = ga σ 0 j) ∧ ((ga u 0 (9 : Int32)).toInt = (ga σ 0 (9 : Int32)).toInt) ∧ (∀ x : Int32, (0 ≤ x.toInt ∧ x.toInt ≤ 5) → ga u 0 ((f_X6_personRow x) + (1 : Int32)) = ga σ 0 ((f_X6_personRow x) + (1 : Int32))) ∧ (MFr σ u))) args s 0 0 (mA g)) (F0 m 112 ls [.int t0_112, .int (ga σ77 31 (0 : Int32)), .int (0 : Int32), .ref (g.2.1 31)]) := by
              intro t0_112 H locs ls ej112 bt0_112 h hl
              have et0_112 := ej112.symm
              refine lv_iadd hx hb dX6_lives_112 ?_
              refine Ms_31 C h (ix_of zl0 (by omega)) dX6_lives_113 (fun σ113 H locs eσ113 h => ?_)
              have hNEW : (0 ≤ (ga σ113 0 (0 : Int32)).toInt ∧ (ga σ113 0 (0 : Int32)).toInt ≤ 6) ∧ (0 ≤ (ga σ113 0 (2 : Int32)).toInt ∧ (ga σ113 0 (2 : Int32)).toInt ≤ 16) ∧ (QR σ113) ∧ (YOK σ113) ∧ ((ga σ113 0 (0 : Int32)).toInt = (ga σ 0 (0 : Int32)).toInt) ∧ ((ga σ113 0 (2 : Int32)).toInt = (ga σ 0 (2 : Int32)).toInt) ∧ (∀ j : Int32, 130 ≤ j.toInt → ga σ113 0 j = ga σ 0 j) ∧ ((ga σ113 0 (9 : Int32)).toInt = (ga σ 0 (9 : Int32)).toInt) ∧ (∀ x : Int32, (0 ≤ x.toInt ∧ x.toInt ≤ 5) → ga σ113 0 ((f_X6_personRow x) + (1 : Int32)) = ga σ 0 ((f_X6_personRow x) + (1 : Int32))) ∧ (MFr σ σ113) ∧ (0 ≤ (gi σ113 28).toInt ∧ (gi σ113 28).toInt ≤ 65535) ∧ (0 ≤ (gi σ113 29).toInt ∧ (gi σ113 29).toInt ≤ 300) ∧ ((gi σ113 29).toInt = (gi σL32 29).toInt + 1) := ⟨(by rw [eσ113] <;> exact hp), (by rw [eσ113] <;> exact hd), (by rw [eσ113] <;> exact hQR), (by rw [eσ113] <;> exact hyk), (by rw [eσ113] <;> exact hpq), (by rw [eσ113] <;> exact hdq), (by rw [eσ113] <;> exact hY), (by rw [eσ113] <;> exact hsq), (by rw [eσ113] <;> exact hQq), (by rw [eσ113]; exact (Fr_xa (by decide) (by decide) hLF)), (by rw [eσ113] <;> exact hdr), (by rw [eσ113] <;> exact hrs), (by rw [eσ113] <;> exact hq29)⟩
              obtain ⟨hp, hd, hQR, hyk, hpq, hdq, hY, hsq, hQq, hLF, hdr, hrs, hq29⟩ := hNEW
              refine lv_aload_n hx hb dX6_lives_114 rfl (lv_at hl 0 rfl) ?_
              refine Mg_0 C h dX6_lives_115 ?_
              refine lv_iload_n hx hb dX6_lives_118 rfl (lv_at hl 2 rfl) ?_
              refine Ml_0 C h (ix_of tv69 (by omega)) dX6_lives_119 ?_
              refine lv_bipush (v := 25) hx hb dX6_lives_120 (by decide) ?_
              have j141 : ∀ (σJ141 : MS) (H : Heap) (locs : List Loc) (ls : Array Slot) (ej141 : (if (ga σ113 0 v69) = (25 : Int32) then ((let σ140 := sa σ113 30 x2_32 ((ga σ113 0 (v69 + (1 : Int32))) - (1 : Int32)); σ140)) else (σ113)) = σJ141) (hp : 0 ≤ (ga σJ141 0 (0 : Int32)).toInt ∧ (ga σJ141 0 (0 : Int32)).toInt ≤ 6) (hd : 0 ≤ (ga σJ141 0 (2 : Int32)).toInt ∧ (ga σJ141 0 (2 : Int32)).toInt ≤ 16) (hQR : QR σJ141) (hyk : YOK σJ141) (hpq : (ga σJ141 0 (0 : Int32)).toInt = (ga σ 0 (0 : Int32)).toInt) (hdq : (ga σJ141 0 (2 : Int32)).toInt = (ga σ 0 (2 : Int32)).toInt) (hY : ∀ j : Int32, 130 ≤ j.toInt → ga σJ141 0 j = ga σ 0 j) (hsq : (ga σJ141 0 (9 : Int32)).toInt = (ga σ 0 (9 : Int32)).toInt) (hQq : ∀ x : Int32, (0 ≤ x.toInt ∧ x.toInt ≤ 5) → ga σJ141 0 ((f_X6_personRow x) + (1 : Int32)) = ga σ 0 ((f_X6_personRow x) + (1 : Int32))) (hLF : MFr σ σJ141) (hdr : 0 ≤ (gi σJ141 28).toInt ∧ (gi σJ141 28).toInt ≤ 65535) (hrs : 0 ≤ (gi σJ141 29).toInt ∧ (gi σJ141 29).toInt ≤ 300) (hq29 : (gi σJ141 29).toInt = (gi σL32 29).toInt + 1) (h : MH g σJ141 s H locs) (hl : lv_has ls 4 [(0, .ref (g.2.1 99)), (2, .int x2_32), (3, .int v69)]), W p l e ({ frames := 8, cells := 0, slots := 0, locals := 182 } : Room) s m args below meth c H locs 0 0 (MQ below (mQv g (f_X6_lives σ p1) (fun u => ((ga u 0 (0 : Int32)).toInt = (ga σ 0 (0 : Int32)).toInt) ∧ ((ga u 0 (2 : Int32)).toInt = (ga σ 0 (2 : Int32)).toInt) ∧ (∀ j : Int32, 130 ≤ j.toInt → ga u 0 j = ga σ 0 j) ∧ ((ga u 0 (9 : Int32)).toInt = (ga σ 0 (9 : Int32)).toInt) ∧ (∀ x : Int32, (0 ≤ x.toInt ∧ x.toInt ≤ 5) → ga u 0 ((f_X6_personRow x) + (1 : Int32)) = ga σ 0 ((f_X6_personRow x) + (1 : Int32))) ∧ (MFr σ u))) args s 0 0 (mA g)) (F0 m 141 ls []) := by
                intro σJ141 H locs ls ej141 hp hd hQR hyk hpq hdq hY hsq hQq hLF hdr hrs hq29 h hl
                have eσJ141 := ej141.symm
                refine lv_aload_n hx hb dX6_lives_141 rfl (lv_at hl 0 rfl) ?_
                refine lv_aload_n hx hb dX6_lives_142 rfl (lv_at hl 0 rfl) ?_
                refine Mg_0 C h dX6_lives_143 ?_
                have hykk := hyk.1
                have rwx := hyk.2 x2_32 (by omega) (by omega)
                rw [show rowI x2_32 = v69 from ev69.symm] at rwx
                have rwx0 := rwx
                obtain ⟨ra, rb, rc, rd⟩ := rwx
                refine lv_iload_n hx hb dX6_lives_146 rfl (lv_at hl 2 rfl) ?_
                refine Ml_0 C h (ix_of tv69 (by omega)) dX6_lives_147 ?_
                refine lv_sipush (v := 2400) hx hb dX6_lives_148 (by decide) ?_
                have j178 : ∀ (t0_178 : Int32) (H : Heap) (locs : List Loc) (ls : Array Slot) (ej178 : (if (ga σJ141 0 v69) < (2400 : Int32) then ((x2_32 + (1 : Int32))) else ((let r156 := (f_X6_holds σJ141 v69); if r156 = (0 : Int32) then (((ga σJ141 0 (v69 + (4 : Int32))) + (1 : Int32))) else ((x2_32 + (1 : Int32)))))) = t0_178) (hI178 : 1 ≤ t0_178.toInt ∧ t0_178.toInt ≤ 60) (h : MH g σJ141 s H locs) (hl : lv_has ls 4 [(0, .ref (g.2.1 99))]), W p l e ({ frames := 8, cells := 0, slots := 0, locals := 182 } : Room) s m args below meth c H locs 0 0 (MQ below (mQv g (f_X6_lives σ p1) (fun u => ((ga u 0 (0 : Int32)).toInt = (ga σ 0 (0 : Int32)).toInt) ∧ ((ga u 0 (2 : Int32)).toInt = (ga σ 0 (2 : Int32)).toInt) ∧ (∀ j : Int32, 130 ≤ j.toInt → ga u 0 j = ga σ 0 j) ∧ ((ga u 0 (9 : Int32)).toInt = (ga σ 0 (9 : Int32)).toInt) ∧ (∀ x : Int32, (0 ≤ x.toInt ∧ x.toInt ≤ 5) → ga u 0 ((f_X6_personRow x) + (1 : Int32)) = ga σ 0 ((f_X6_personRow x) + (1 : Int32))) ∧ (MFr σ u))) args s 0 0 (mA g)) (F0 m 178 ls [.int t0_178, .ref (g.2.1 99)]) := by
                  intro t0_178 H locs ls ej178 hI178 h hl
                  have et0_178 := ej178.symm
                  refine M_calli (As := [.int t0_178]) (rest := []) 1 C h (k_X6_behindEnds l g σJ141 t0_178 (by first | assumption | omega) (by first | assumption | omega)) (lw_V q2240 q2242 qs141 q152 q2243) rfl rfl (by decide +kernel) ⟨Nat.le_of_ble_eq_true rfl, Nat.le_of_ble_eq_true rfl⟩ rfl hl.1 rfl (Nat.le_of_ble_eq_true rfl) ⟨Nat.le_of_ble_eq_true rfl, Nat.le_of_ble_eq_true rfl⟩ dX6_lives_178 (fun r178 σ178 H locs eσ178 er178 hE178 h => ?_)
                  have hE178 : (∀ j : Int32, ga σ178 0 j = ga σJ141 0 j) ∧ (∀ k : Nat, gi σ178 k = gi σJ141 k) ∧ (MFr σJ141 σ178) ∧ (0 ≤ r178.toInt ∧ r178.toInt ≤ 60) := hE178
                  obtain ⟨hA0_178, hGI_178, hLF_178, br_178⟩ := hE178
                  have hNEW : (0 ≤ (ga σ178 0 (0 : Int32)).toInt ∧ (ga σ178 0 (0 : Int32)).toInt ≤ 6) ∧ (0 ≤ (ga σ178 0 (2 : Int32)).toInt ∧ (ga σ178 0 (2 : Int32)).toInt ≤ 16) ∧ (QR σ178) ∧ (YOK σ178) ∧ ((ga σ178 0 (0 : Int32)).toInt = (ga σ 0 (0 : Int32)).toInt) ∧ ((ga σ178 0 (2 : Int32)).toInt = (ga σ 0 (2 : Int32)).toInt) ∧ (∀ j : Int32, 130 ≤ j.toInt → ga σ178 0 j = ga σ 0 j) ∧ ((ga σ178 0 (9 : Int32)).toInt = (ga σ 0 (9 : Int32)).toInt) ∧ (∀ x : Int32, (0 ≤ x.toInt ∧ x.toInt ≤ 5) → ga σ178 0 ((f_X6_personRow x) + (1 : Int32)) = ga σ 0 ((f_X6_personRow x) + (1 : Int32))) ∧ (MFr σ σ178) ∧ (0 ≤ (gi σ178 28).toInt ∧ (gi σ178 28).toInt ≤ 65535) ∧ (0 ≤ (gi σ178 29).toInt ∧ (gi σ178 29).toInt ≤ 300) ∧ ((gi σ178 29).toInt = (gi σL32 29).toInt + 1) := ⟨(by simp only [hA0_178] <;> exact hp), (by simp only [hA0_178] <;> exact hd), (fun x hx => by rw [hA0_178]; exact hQR x hx), (YOK_A0 hA0_178 hyk), (by simp only [hA0_178] <;> exact hpq), (by simp only [hA0_178] <;> exact hdq), (fun j hj => (hA0_178 j).trans (hY j hj)), (by simp only [hA0_178] <;> exact hsq), (fun x hx => (hA0_178 _).trans (hQq x hx)), (Fr.tr hLF hLF_178), (by rw [hGI_178]; exact hdr), (by rw [hGI_178]; exact hrs), (by rw [hGI_178]; exact hq29)⟩
                  obtain ⟨hp, hd, hQR, hyk, hpq, hdq, hY, hsq, hQq, hLF, hdr, hrs, hq29⟩ := hNEW
                  refine lv_istore_n (lv' := [(2, .int r178), (0, .ref (g.2.1 99))]) hx hb dX6_lives_181 rfl hl (by decide) rfl (fun ls hl => ?_)
                  refine lv_goto (tgt := 32) hx hb dX6_lives_182 (by decide) ?_
                  exact ih r178 σ178 _ _ _ hp hd hQR hyk hpq hdq hY hsq hQq hLF hdr hrs (by first | assumption | omega) (by omega) (by have ev69 := ev69.symm; subst ev69; have eσ77 := eσ77.symm; subst eσ77; have eσ101 := eσ101.symm; subst eσ101; have er101 := er101.symm; subst er101; have et0_112 := et0_112.symm; subst et0_112; have eσ113 := eσ113.symm; subst eσ113; have eσJ141 := eσJ141.symm; subst eσJ141; have et0_178 := et0_178.symm; subst et0_178; have eσ178 := eσ178.symm; subst eσ178; have er178 := er178.symm; subst er178; exact (hf32.trans ((if_neg c40).trans ((if_neg c50).trans ((if_neg c88).trans rfl))))) h (lv_sub hl [1, 0] rfl)
                refine lv_icmp_lt (tgt := 175) hx hb dX6_lives_151 (by decide) (fun c151 => ?_) (fun c151 => ?_)
                · have i151 := c_lt c151
                  refine lv_iload_n hx hb dX6_lives_175 rfl (lv_at hl 1 rfl) ?_
                  refine lv_iconst (v := 1) hx hb dX6_lives_176 (by decide) ?_
                  refine lv_iadd hx hb dX6_lives_177 ?_
                  have tjt0_178 : (x2_32 + (1 : Int32)).toInt = (x2_32.toInt + (1)) := (i_add (rfl : x2_32.toInt = x2_32.toInt) zl1 (by omega))
                  exact j178 _ _ _ _ (by exact ((if_pos c151).trans rfl)) (by first | assumption | omega) h (lv_sub hl [0] rfl)
                · have i151 := c_nlt c151
                  refine lv_aload_n hx hb dX6_lives_154 rfl (lv_at hl 0 rfl) ?_
                  refine lv_iload_n hx hb dX6_lives_155 rfl (lv_at hl 2 rfl) ?_
                  refine M_callz (As := [.int v69]) (rest := [.ref (g.2.1 99)]) 1 C h (k_X6_holds l g σJ141 v69 (by first | assumption | omega) rwx0 (by first | assumption | omega) (by first | assumption | omega)) (lw_V q2236 q2238 qs140 q152 q2239) rfl rfl (by decide +kernel) ⟨Nat.le_of_ble_eq_true rfl, Nat.le_of_ble_eq_true rfl⟩ rfl hl.1 rfl (Nat.le_of_ble_eq_true rfl) ⟨Nat.le_of_ble_eq_true rfl, Nat.le_of_ble_eq_true rfl⟩ dX6_lives_156 (fun r156 σ156 H locs eσ156 er156 br156 hE156 h => ?_)
                  rw [eσ156] at h
                  clear hE156
                  clear eσ156
                  refine lv_if_ne (tgt := 175) hx hb dX6_lives_159 (by decide) (fun c159 => ?_) (fun c159 => ?_)
                  · have i159 := c_ne c159
                    refine lv_iload_n hx hb dX6_lives_175 rfl (lv_at hl 1 rfl) ?_
                    refine lv_iconst (v := 1) hx hb dX6_lives_176 (by decide) ?_
                    refine lv_iadd hx hb dX6_lives_177 ?_
                    have tjt0_178 : (x2_32 + (1 : Int32)).toInt = (x2_32.toInt + (1)) := (i_add (rfl : x2_32.toInt = x2_32.toInt) zl1 (by omega))
                    exact j178 _ _ _ _ (by have er156 := er156.symm; subst er156; exact ((if_neg c151).trans ((if_neg c159).trans rfl))) (by first | assumption | omega) h (lv_sub hl [0] rfl)
                  · have i159 := c_eq c159
                    refine lv_aload_n hx hb dX6_lives_162 rfl (lv_at hl 0 rfl) ?_
                    refine Mg_0 C h dX6_lives_163 ?_
                    refine lv_iload_n hx hb dX6_lives_166 rfl (lv_at hl 2 rfl) ?_
                    refine lv_iconst (v := 4) hx hb dX6_lives_167 (by decide) ?_
                    refine lv_iadd hx hb dX6_lives_168 ?_
                    refine Ml_0 C h (ix_of (i_add tv69 zl4 (by omega)) (by omega)) dX6_lives_169 ?_
                    refine lv_iconst (v := 1) hx hb dX6_lives_170 (by decide) ?_
                    refine lv_iadd hx hb dX6_lives_171 ?_
                    refine lv_goto (tgt := 178) hx hb dX6_lives_172 (by decide) ?_
                    have tjt0_178 : ((ga σJ141 0 (v69 + (4 : Int32))) + (1 : Int32)).toInt = ((ga σJ141 0 (v69 + (4 : Int32))).toInt + (1)) := (i_add (rfl : (ga σJ141 0 (v69 + (4 : Int32))).toInt = (ga σJ141 0 (v69 + (4 : Int32))).toInt) zl1 (by omega))
                    exact j178 _ _ _ _ (by have er156 := er156.symm; subst er156; exact ((if_neg c151).trans ((if_pos c159).trans rfl))) (by first | assumption | omega) h (lv_sub hl [0] rfl)
              refine lv_icmp_ne (tgt := 141) hx hb dX6_lives_122 (by decide) (fun c122 => ?_) (fun c122 => ?_)
              · have i122 := c_ne c122
                exact j141 _ _ _ _ (by exact ((if_neg c122).trans rfl)) hp hd hQR hyk hpq hdq hY hsq hQq hLF hdr hrs hq29 h hl
              · have i122 := c_eq c122
                refine lv_aload_n hx hb dX6_lives_125 rfl (lv_at hl 0 rfl) ?_
                refine Mg_30 C h dX6_lives_126 ?_
                refine lv_iload_n hx hb dX6_lives_129 rfl (lv_at hl 1 rfl) ?_
                refine lv_aload_n hx hb dX6_lives_130 rfl (lv_at hl 0 rfl) ?_
                refine Mg_0 C h dX6_lives_131 ?_
                refine lv_iload_n hx hb dX6_lives_134 rfl (lv_at hl 2 rfl) ?_
                refine lv_iconst (v := 1) hx hb dX6_lives_135 (by decide) ?_
                refine lv_iadd hx hb dX6_lives_136 ?_
                refine Ml_0 C h (ix_of (i_add tv69 zl1 (by omega)) (by omega)) dX6_lives_137 ?_
                refine lv_iconst (v := 1) hx hb dX6_lives_138 (by decide) ?_
                refine lv_isub hx hb dX6_lives_139 ?_
                refine Ms_30 C h (ix_of (rfl : x2_32.toInt = x2_32.toInt) (by omega)) dX6_lives_140 (fun σ140 H locs eσ140 h => ?_)
                have hNEW : (0 ≤ (ga σ140 0 (0 : Int32)).toInt ∧ (ga σ140 0 (0 : Int32)).toInt ≤ 6) ∧ (0 ≤ (ga σ140 0 (2 : Int32)).toInt ∧ (ga σ140 0 (2 : Int32)).toInt ≤ 16) ∧ (QR σ140) ∧ (YOK σ140) ∧ ((ga σ140 0 (0 : Int32)).toInt = (ga σ 0 (0 : Int32)).toInt) ∧ ((ga σ140 0 (2 : Int32)).toInt = (ga σ 0 (2 : Int32)).toInt) ∧ (∀ j : Int32, 130 ≤ j.toInt → ga σ140 0 j = ga σ 0 j) ∧ ((ga σ140 0 (9 : Int32)).toInt = (ga σ 0 (9 : Int32)).toInt) ∧ (∀ x : Int32, (0 ≤ x.toInt ∧ x.toInt ≤ 5) → ga σ140 0 ((f_X6_personRow x) + (1 : Int32)) = ga σ 0 ((f_X6_personRow x) + (1 : Int32))) ∧ (MFr σ σ140) ∧ (0 ≤ (gi σ140 28).toInt ∧ (gi σ140 28).toInt ≤ 65535) ∧ (0 ≤ (gi σ140 29).toInt ∧ (gi σ140 29).toInt ≤ 300) ∧ ((gi σ140 29).toInt = (gi σL32 29).toInt + 1) := ⟨(by rw [eσ140] <;> exact hp), (by rw [eσ140] <;> exact hd), (by rw [eσ140] <;> exact hQR), (by rw [eσ140] <;> exact hyk), (by rw [eσ140] <;> exact hpq), (by rw [eσ140] <;> exact hdq), (by rw [eσ140] <;> exact hY), (by rw [eσ140] <;> exact hsq), (by rw [eσ140] <;> exact hQq), (by rw [eσ140]; exact (Fr_xa (by decide) (by decide) hLF)), (by rw [eσ140] <;> exact hdr), (by rw [eσ140] <;> exact hrs), (by rw [eσ140] <;> exact hq29)⟩
                clear hp hd hQR hyk hpq hdq hY hsq hQq hLF hdr hrs hq29
                obtain ⟨hp, hd, hQR, hyk, hpq, hdq, hY, hsq, hQq, hLF, hdr, hrs, hq29⟩ := hNEW
                exact j141 _ _ _ _ (by have eσ140 := eσ140.symm; subst eσ140; exact ((if_pos c122).trans rfl)) hp hd hQR hyk hpq hdq hY hsq hQq hLF hdr hrs hq29 h hl
            refine lv_if_eq (tgt := 111) hx hb dX6_lives_104 (by decide) (fun c104 => ?_) (fun c104 => ?_)
            · have i104 := c_eq c104
              refine lv_iconst (v := 1) hx hb dX6_lives_111 (by decide) ?_
              exact j112 _ _ _ _ (by exact ((if_pos c104).trans rfl)) (Or.inr rfl) h (lv_sub hl [1, 2, 0] rfl)
            · have i104 := c_ne c104
              refine lv_iconst (v := 0) hx hb dX6_lives_107 (by decide) ?_
              refine lv_goto (tgt := 112) hx hb dX6_lives_108 (by decide) ?_
              exact j112 _ _ _ _ (by exact ((if_neg c104).trans rfl)) (Or.inl rfl) h (lv_sub hl [1, 2, 0] rfl)
          · have i88 := c_eq c88
            have he : f_X6_lives σ p1 = σ77 := (by have ev69 := ev69.symm; subst ev69; have eσ77 := eσ77.symm; subst eσ77; exact (hf32.trans ((if_neg c40).trans ((if_neg c50).trans ((if_pos c88).trans rfl)))))
            exact M_retv C h hr hlocks he ⟨hpq, hdq, hY, hsq, hQq, hLF⟩ dX6_lives_91
        · have i50 := c_eq c50
          refine lv_aload_n hx hb dX6_lives_53 rfl (lv_at hl 0 rfl) ?_
          refine Mg_31 C h dX6_lives_54 ?_
          refine lv_iconst (v := 4) hx hb dX6_lives_57 (by decide) ?_
          refine lv_iconst (v := 1) hx hb dX6_lives_58 (by decide) ?_
          refine Ms_31 C h (ix_of zl4 (by omega)) dX6_lives_59 (fun σ59 H locs eσ59 h => ?_)
          have hNEW : (0 ≤ (ga σ59 0 (0 : Int32)).toInt ∧ (ga σ59 0 (0 : Int32)).toInt ≤ 6) ∧ (0 ≤ (ga σ59 0 (2 : Int32)).toInt ∧ (ga σ59 0 (2 : Int32)).toInt ≤ 16) ∧ (QR σ59) ∧ (YOK σ59) ∧ ((ga σ59 0 (0 : Int32)).toInt = (ga σ 0 (0 : Int32)).toInt) ∧ ((ga σ59 0 (2 : Int32)).toInt = (ga σ 0 (2 : Int32)).toInt) ∧ (∀ j : Int32, 130 ≤ j.toInt → ga σ59 0 j = ga σ 0 j) ∧ ((ga σ59 0 (9 : Int32)).toInt = (ga σ 0 (9 : Int32)).toInt) ∧ (∀ x : Int32, (0 ≤ x.toInt ∧ x.toInt ≤ 5) → ga σ59 0 ((f_X6_personRow x) + (1 : Int32)) = ga σ 0 ((f_X6_personRow x) + (1 : Int32))) ∧ (MFr σ σ59) ∧ (0 ≤ (gi σ59 28).toInt ∧ (gi σ59 28).toInt ≤ 65535) ∧ (0 ≤ (gi σ59 29).toInt ∧ (gi σ59 29).toInt ≤ 300) := ⟨(by rw [eσ59] <;> exact hp), (by rw [eσ59] <;> exact hd), (by rw [eσ59] <;> exact hQR), (by rw [eσ59] <;> exact hyk), (by rw [eσ59] <;> exact hpq), (by rw [eσ59] <;> exact hdq), (by rw [eσ59] <;> exact hY), (by rw [eσ59] <;> exact hsq), (by rw [eσ59] <;> exact hQq), (by rw [eσ59]; exact (Fr_xa (by decide) (by decide) hLF)), (by rw [eσ59] <;> exact hdr), (by rw [eσ59] <;> exact hrs)⟩
          obtain ⟨hp, hd, hQR, hyk, hpq, hdq, hY, hsq, hQq, hLF, hdr, hrs⟩ := hNEW
          have he : f_X6_lives σ p1 = σ59 := (by have eσ59 := eσ59.symm; subst eσ59; exact (hf32.trans ((if_neg c40).trans ((if_pos c50).trans rfl))))
          exact M_retv C h hr hlocks he ⟨hpq, hdq, hY, hsq, hQq, hLF⟩ dX6_lives_60
  exact hL32 (301) (0 : Int32) σL12e _ _ _ hp hd hQR hyk hpq hdq hY hsq hQq hLF hdr hrs (by first | assumption | omega) (by omega) (by have eσ2 := eσ2.symm; subst eσ2; have eσ7 := eσ7.symm; subst eσ7; have ex2_12e := ex2_12e.symm; subst ex2_12e; have eσL12e := eσL12e.symm; subst eσL12e; exact rfl) h (lv_sub hl [1, 0] rfl)
def f_X6_live_L43 : Nat → Int32 → MS → Int32 × MS
  | 0, x2_43, σL43 => (x2_43, σL43)
  | n + 1, x2_43, σL43 => if (5 : Int32) ≤ x2_43 then ((x2_43, σL43)) else ((let σ59 := sa σL43 32 x2_43 (ga σL43 31 x2_43); f_X6_live_L43 n (x2_43 + (1 : Int32)) σ59))
def f_X6_live (σ : MS) (p1 : Int32) : MS × Int32 := (let r6 := (f_X6_isFrom p1.toInt64 (0 : Int64) (9999 : Int64)); if r6 = (0 : Int32) then ((let z14 := (f_X6_refuse σ (1 : Int32)); let σ14 := z14.1; let r14 := z14.2; (σ14, r14))) else (if (ga σ 0 (9 : Int32)) = (-1 : Int32) then ((let z32 := (f_X6_refuse σ (6 : Int32)); let σ32 := z32.1; let r32 := z32.2; (σ32, r32))) else ((let σ38 := (f_X6_lives σ p1); (let zL43 := f_X6_live_L43 (6) (0 : Int32) σ38; let x2_43e := zL43.1; let σL43e := zL43.2; (let σ68 := si σL43e 33 (1 : Int32); let z76 := (f_X6_gives σ68 (gi σ68 29)); let σ76 := z76.1; let r76 := z76.2; (σ76, r76)))))))
set_option maxHeartbeats 4000000 in
set_option maxRecDepth 100000 in
theorem k_X6_live (l : Launch) (g : GE) (σ : MS) (p1 : Int32) (hp : 0 ≤ (ga σ 0 (0 : Int32)).toInt ∧ (ga σ 0 (0 : Int32)).toInt ≤ 6) (hd : 0 ≤ (ga σ 0 (2 : Int32)).toInt ∧ (ga σ 0 (2 : Int32)).toInt ≤ 16) (hQR : QR σ) (hyk : YOK σ) : Met l yX6_live (ws_ yX6_live cX6_live 3 (some .int)) ({ frames := 9, cells := 0, slots := 0, locals := 205 } : Room) (mPc g σ [.int p1]) (mQi g (f_X6_live σ p1).1 (f_X6_live σ p1).2 (fun u r => ((ga u 0 (0 : Int32)).toInt = (ga σ 0 (0 : Int32)).toInt) ∧ ((ga u 0 (2 : Int32)).toInt = (ga σ 0 (2 : Int32)).toInt) ∧ (∀ j : Int32, 130 ≤ j.toInt → ga u 0 j = ga σ 0 j) ∧ ((ga u 0 (9 : Int32)).toInt = (ga σ 0 (9 : Int32)).toInt) ∧ (∀ x : Int32, (0 ≤ x.toInt ∧ x.toInt ≤ 5) → ga u 0 ((f_X6_personRow x) + (1 : Int32)) = ga σ 0 ((f_X6_personRow x) + (1 : Int32))) ∧ (MFr σ u))) 0 0 (mA g) := by
  refine met_M (by decide) rfl (Nat.le_of_ble_eq_true rfl) ?_
  intro p e s m args below meth c C hr hlocks h ls hl
  have hx := C.1.1
  have hb := C.1.2.1
  have hml := C.1.2.2.1
  have hown := C.1.2.2.2.1
  have hts := C.1.2.2.2.2
  have hl : lv_has ls 3 [(0, .ref (g.2.1 99)), (1, .int p1)] := hl
  have hpq : (ga σ 0 (0 : Int32)).toInt = (ga σ 0 (0 : Int32)).toInt := rfl
  have hdq : (ga σ 0 (2 : Int32)).toInt = (ga σ 0 (2 : Int32)).toInt := rfl
  have hY : ∀ j : Int32, 130 ≤ j.toInt → ga σ 0 j = ga σ 0 j := fun _ _ => rfl
  have hsq : (ga σ 0 (9 : Int32)).toInt = (ga σ 0 (9 : Int32)).toInt := rfl
  have hQq : ∀ x : Int32, (0 ≤ x.toInt ∧ x.toInt ≤ 5) → ga σ 0 ((f_X6_personRow x) + (1 : Int32)) = ga σ 0 ((f_X6_personRow x) + (1 : Int32)) := fun _ _ => rfl
  have hLF : MFr σ σ := Fr.rf
  have zlm1 : (-1 : Int32).toInt = -1 := rfl
  have zl0 : (0 : Int32).toInt = 0 := rfl
  have zl1 : (1 : Int32).toInt = 1 := rfl
  have zl5 : (5 : Int32).toInt = 5 := rfl
  have zl6 : (6 : Int32).toInt = 6 := rfl
  have zl9 : (9 : Int32).toInt = 9 := rfl
  refine lv_iload_n hx hb dX6_live_0 rfl (lv_at hl 1 rfl) ?_
  refine lv_i2l (v := p1.toInt64) hx hb dX6_live_1 rfl ?_
  refine lv_lconst (v := 0) hx hb dX6_live_2 (by decide) ?_
  refine lv_ldc2 hx hb hown (hts _ q1956) dX6_live_3 ?_
  refine s_callz (As := [.long p1.toInt64, .long (0 : Int64), .long (9999 : Int64)]) (rest := []) 3 C.1 (k_X6_isFrom l p1.toInt64 (0 : Int64) (9999 : Int64)) (lw_S q1936 q1937 q152 q1938) rfl rfl (by decide +kernel) ⟨Nat.le_of_ble_eq_true rfl, Nat.le_of_ble_eq_true rfl⟩ rfl hl.1 rfl (Nat.le_of_ble_eq_true rfl) ⟨Nat.le_of_ble_eq_true rfl, Nat.le_of_ble_eq_true rfl⟩ dX6_live_6 h.2.2 (fun r6 H locs er6 br6 hz1 hk1 hS1 => ?_)
  have h := h.same hk1 hS1
  clear hz1 hk1 hS1
  refine lv_if_ne (tgt := 18) hx hb dX6_live_9 (by decide) (fun c9 => ?_) (fun c9 => ?_)
  · have i9 := c_ne c9
    have okr6 := isFrom_ok er6 c9
    have kk9 := isFrom_i (A := 0) (B := 9999) rfl rfl okr6
    refine lv_aload_n hx hb dX6_live_18 rfl (lv_at hl 0 rfl) ?_
    refine Mg_0 C h dX6_live_19 ?_
    refine lv_bipush (v := 9) hx hb dX6_live_22 (by decide) ?_
    refine Ml_0 C h (ix_of zl9 (by omega)) dX6_live_24 ?_
    refine lv_iconst (v := -1) hx hb dX6_live_25 (by decide) ?_
    refine lv_icmp_ne (tgt := 36) hx hb dX6_live_26 (by decide) (fun c26 => ?_) (fun c26 => ?_)
    · have i26 := c_ne c26
      refine lv_aload_n hx hb dX6_live_36 rfl (lv_at hl 0 rfl) ?_
      refine lv_iload_n hx hb dX6_live_37 rfl (lv_at hl 1 rfl) ?_
      refine M_callv (As := [.int p1]) (rest := []) 1 C h (k_X6_lives l g σ p1 (by first | assumption | omega) (by first | assumption | omega) (by first | assumption | omega) (by first | assumption | omega) (by first | assumption | omega)) (lw_V q2211 q2213 qs134 q152 q2214) rfl rfl (by decide +kernel) ⟨Nat.le_of_ble_eq_true rfl, Nat.le_of_ble_eq_true rfl⟩ rfl hl.1 rfl (Nat.le_of_ble_eq_true rfl) ⟨Nat.le_of_ble_eq_true rfl, Nat.le_of_ble_eq_true rfl⟩ dX6_live_38 (fun σ38 H locs eσ38 hE38 h => ?_)
      have hE38 : ((ga σ38 0 (0 : Int32)).toInt = (ga σ 0 (0 : Int32)).toInt) ∧ ((ga σ38 0 (2 : Int32)).toInt = (ga σ 0 (2 : Int32)).toInt) ∧ (∀ j : Int32, 130 ≤ j.toInt → ga σ38 0 j = ga σ 0 j) ∧ ((ga σ38 0 (9 : Int32)).toInt = (ga σ 0 (9 : Int32)).toInt) ∧ (∀ x : Int32, (0 ≤ x.toInt ∧ x.toInt ≤ 5) → ga σ38 0 ((f_X6_personRow x) + (1 : Int32)) = ga σ 0 ((f_X6_personRow x) + (1 : Int32))) ∧ (MFr σ σ38) := hE38
      obtain ⟨hpq_38, hdq_38, hY_38, hsq_38, hQq_38, hLF_38⟩ := hE38
      have hNEW : (0 ≤ (ga σ38 0 (0 : Int32)).toInt ∧ (ga σ38 0 (0 : Int32)).toInt ≤ 6) ∧ (0 ≤ (ga σ38 0 (2 : Int32)).toInt ∧ (ga σ38 0 (2 : Int32)).toInt ≤ 16) ∧ (QR σ38) ∧ (YOK σ38) ∧ ((ga σ38 0 (0 : Int32)).toInt = (ga σ 0 (0 : Int32)).toInt) ∧ ((ga σ38 0 (2 : Int32)).toInt = (ga σ 0 (2 : Int32)).toInt) ∧ (∀ j : Int32, 130 ≤ j.toInt → ga σ38 0 j = ga σ 0 j) ∧ ((ga σ38 0 (9 : Int32)).toInt = (ga σ 0 (9 : Int32)).toInt) ∧ (∀ x : Int32, (0 ≤ x.toInt ∧ x.toInt ≤ 5) → ga σ38 0 ((f_X6_personRow x) + (1 : Int32)) = ga σ 0 ((f_X6_personRow x) + (1 : Int32))) ∧ (MFr σ σ38) := ⟨(by first | assumption | omega), (by first | assumption | omega), (fun x hx => by rw [hQq_38 x hx]; exact hQR x hx), (YOK_hY hY_38 hsq_38 hyk), (by first | assumption | omega), (by first | assumption | omega), (fun j hj => (hY_38 j hj).trans (hY j hj)), (by first | assumption | omega), (fun j hj => (hQq_38 j hj).trans (hQq j hj)), (Fr.tr hLF hLF_38)⟩
      obtain ⟨hp, hd, hQR, hyk, hpq, hdq, hY, hsq, hQq, hLF⟩ := hNEW
      refine lv_iconst (v := 0) hx hb dX6_live_41 (by decide) ?_
      refine lv_istore_n (lv' := [(2, .int (0 : Int32)), (0, .ref (g.2.1 99)), (1, .int p1)]) hx hb dX6_live_42 rfl hl (by decide) rfl (fun ls hl => ?_)
      have hL43 : ∀ (n : Nat) (x2_43 : Int32) (σL43 : MS) (H : Heap) (locs : List Loc) (ls : Array Slot), (0 ≤ (ga σL43 0 (0 : Int32)).toInt ∧ (ga σL43 0 (0 : Int32)).toInt ≤ 6) → (0 ≤ (ga σL43 0 (2 : Int32)).toInt ∧ (ga σL43 0 (2 : Int32)).toInt ≤ 16) → (QR σL43) → (YOK σL43) → ((ga σL43 0 (0 : Int32)).toInt = (ga σ 0 (0 : Int32)).toInt) → ((ga σL43 0 (2 : Int32)).toInt = (ga σ 0 (2 : Int32)).toInt) → (∀ j : Int32, 130 ≤ j.toInt → ga σL43 0 j = ga σ 0 j) → ((ga σL43 0 (9 : Int32)).toInt = (ga σ 0 (9 : Int32)).toInt) → (∀ x : Int32, (0 ≤ x.toInt ∧ x.toInt ≤ 5) → ga σL43 0 ((f_X6_personRow x) + (1 : Int32)) = ga σ 0 ((f_X6_personRow x) + (1 : Int32))) → (MFr σ σL43) → (0 ≤ x2_43.toInt ∧ x2_43.toInt ≤ 5) → (5 - x2_43.toInt).toNat < n → MH g σL43 s H locs → lv_has ls 3 [(0, .ref (g.2.1 99)), (2, .int x2_43)] → (∀ (x2_43' : Int32) (σL43' : MS) (H : Heap) (locs : List Loc) (ls : Array Slot), f_X6_live_L43 n x2_43 σL43 = (x2_43', σL43') → (0 ≤ (ga σL43' 0 (0 : Int32)).toInt ∧ (ga σL43' 0 (0 : Int32)).toInt ≤ 6) → (0 ≤ (ga σL43' 0 (2 : Int32)).toInt ∧ (ga σL43' 0 (2 : Int32)).toInt ≤ 16) → (QR σL43') → (YOK σL43') → ((ga σL43' 0 (0 : Int32)).toInt = (ga σ 0 (0 : Int32)).toInt) → ((ga σL43' 0 (2 : Int32)).toInt = (ga σ 0 (2 : Int32)).toInt) → (∀ j : Int32, 130 ≤ j.toInt → ga σL43' 0 j = ga σ 0 j) → ((ga σL43' 0 (9 : Int32)).toInt = (ga σ 0 (9 : Int32)).toInt) → (∀ x : Int32, (0 ≤ x.toInt ∧ x.toInt ≤ 5) → ga σL43' 0 ((f_X6_personRow x) + (1 : Int32)) = ga σ 0 ((f_X6_personRow x) + (1 : Int32))) → (MFr σ σL43') → (0 ≤ x2_43'.toInt ∧ x2_43'.toInt ≤ 5) → MH g σL43' s H locs → lv_has ls 3 [(0, .ref (g.2.1 99))] → W p l e ({ frames := 9, cells := 0, slots := 0, locals := 205 } : Room) s m args below meth c H locs 0 0 (MQ below (mQi g (f_X6_live σ p1).1 (f_X6_live σ p1).2 (fun u r => ((ga u 0 (0 : Int32)).toInt = (ga σ 0 (0 : Int32)).toInt) ∧ ((ga u 0 (2 : Int32)).toInt = (ga σ 0 (2 : Int32)).toInt) ∧ (∀ j : Int32, 130 ≤ j.toInt → ga u 0 j = ga σ 0 j) ∧ ((ga u 0 (9 : Int32)).toInt = (ga σ 0 (9 : Int32)).toInt) ∧ (∀ x : Int32, (0 ≤ x.toInt ∧ x.toInt ≤ 5) → ga u 0 ((f_X6_personRow x) + (1 : Int32)) = ga σ 0 ((f_X6_personRow x) + (1 : Int32))) ∧ (MFr σ u))) args s 0 0 (mA g)) (F0 m 66 ls [])) → W p l e ({ frames := 9, cells := 0, slots := 0, locals := 205 } : Room) s m args below meth c H locs 0 0 (MQ below (mQi g (f_X6_live σ p1).1 (f_X6_live σ p1).2 (fun u r => ((ga u 0 (0 : Int32)).toInt = (ga σ 0 (0 : Int32)).toInt) ∧ ((ga u 0 (2 : Int32)).toInt = (ga σ 0 (2 : Int32)).toInt) ∧ (∀ j : Int32, 130 ≤ j.toInt → ga u 0 j = ga σ 0 j) ∧ ((ga u 0 (9 : Int32)).toInt = (ga σ 0 (9 : Int32)).toInt) ∧ (∀ x : Int32, (0 ≤ x.toInt ∧ x.toInt ≤ 5) → ga u 0 ((f_X6_personRow x) + (1 : Int32)) = ga σ 0 ((f_X6_personRow x) + (1 : Int32))) ∧ (MFr σ u))) args s 0 0 (mA g)) (F0 m 43 ls []) := by
        intro n
        induction n with
        | zero =>
          intro x2_43 σL43 H locs ls hp hd hQR hyk hpq hdq hY hsq hQq hLF _ hm; exact absurd hm (Nat.not_lt_zero _)
        | succ n ih =>
          intro x2_43 σL43 H locs ls hp hd hQR hyk hpq hdq hY hsq hQq hLF hI43 hm h hl kk
          refine lv_iload_n hx hb dX6_live_43 rfl (lv_at hl 1 rfl) ?_
          refine lv_iconst (v := 5) hx hb dX6_live_44 (by decide) ?_
          refine lv_icmp_ge (tgt := 66) hx hb dX6_live_45 (by decide) (fun c45 => ?_) (fun c45 => ?_)
          · have i45 := c_le c45
            exact kk x2_43 σL43 _ _ _ (show f_X6_live_L43 (n + 1) x2_43 σL43 = (x2_43, σL43) from (by exact ((if_pos c45).trans rfl))) hp hd hQR hyk hpq hdq hY hsq hQq hLF (by first | assumption | omega) h (lv_sub hl [0] rfl)
          · have i45 := c_nle c45
            refine lv_aload_n hx hb dX6_live_48 rfl (lv_at hl 0 rfl) ?_
            refine Mg_32 C h dX6_live_49 ?_
            refine lv_iload_n hx hb dX6_live_52 rfl (lv_at hl 1 rfl) ?_
            refine lv_aload_n hx hb dX6_live_53 rfl (lv_at hl 0 rfl) ?_
            refine Mg_31 C h dX6_live_54 ?_
            refine lv_iload_n hx hb dX6_live_57 rfl (lv_at hl 1 rfl) ?_
            refine Ml_31 C h (ix_of (rfl : x2_43.toInt = x2_43.toInt) (by omega)) dX6_live_58 ?_
            refine Ms_32 C h (ix_of (rfl : x2_43.toInt = x2_43.toInt) (by omega)) dX6_live_59 (fun σ59 H locs eσ59 h => ?_)
            have hNEW : (0 ≤ (ga σ59 0 (0 : Int32)).toInt ∧ (ga σ59 0 (0 : Int32)).toInt ≤ 6) ∧ (0 ≤ (ga σ59 0 (2 : Int32)).toInt ∧ (ga σ59 0 (2 : Int32)).toInt ≤ 16) ∧ (QR σ59) ∧ (YOK σ59) ∧ ((ga σ59 0 (0 : Int32)).toInt = (ga σ 0 (0 : Int32)).toInt) ∧ ((ga σ59 0 (2 : Int32)).toInt = (ga σ 0 (2 : Int32)).toInt) ∧ (∀ j : Int32, 130 ≤ j.toInt → ga σ59 0 j = ga σ 0 j) ∧ ((ga σ59 0 (9 : Int32)).toInt = (ga σ 0 (9 : Int32)).toInt) ∧ (∀ x : Int32, (0 ≤ x.toInt ∧ x.toInt ≤ 5) → ga σ59 0 ((f_X6_personRow x) + (1 : Int32)) = ga σ 0 ((f_X6_personRow x) + (1 : Int32))) ∧ (MFr σ σ59) := ⟨(by rw [eσ59] <;> exact hp), (by rw [eσ59] <;> exact hd), (by rw [eσ59] <;> exact hQR), (by rw [eσ59] <;> exact hyk), (by rw [eσ59] <;> exact hpq), (by rw [eσ59] <;> exact hdq), (by rw [eσ59] <;> exact hY), (by rw [eσ59] <;> exact hsq), (by rw [eσ59] <;> exact hQq), (by rw [eσ59]; exact (Fr_xa (by decide) (by decide) hLF))⟩
            obtain ⟨hp, hd, hQR, hyk, hpq, hdq, hY, hsq, hQq, hLF⟩ := hNEW
            refine lv_iinc (v := (x2_43 + (1 : Int32))) (lv' := [(2, .int (x2_43 + (1 : Int32))), (0, .ref (g.2.1 99))]) hx hb dX6_live_60 hl (k := 1) rfl rfl (by decide) rfl (fun ls hl => ?_)
            refine lv_goto (tgt := 43) hx hb dX6_live_63 (by decide) ?_
            have tt2 : (x2_43 + (1 : Int32)).toInt = (x2_43.toInt + (1)) := (i_add (rfl : x2_43.toInt = x2_43.toInt) zl1 (by omega))
            exact ih (x2_43 + (1 : Int32)) σ59 _ _ _ hp hd hQR hyk hpq hdq hY hsq hQq hLF (by first | assumption | omega) (by omega) h (lv_sub hl [1, 0] rfl) (fun x2_43' σL43' H locs ls en hp hd hQR hyk hpq hdq hY hsq hQq hLF hI h hl => kk x2_43' σL43' H locs ls ((show f_X6_live_L43 (n + 1) x2_43 σL43 = f_X6_live_L43 n (x2_43 + (1 : Int32)) σ59 from (by have eσ59 := eσ59.symm; subst eσ59; exact ((if_neg c45).trans rfl))).trans en) hp hd hQR hyk hpq hdq hY hsq hQq hLF hI h hl)
      refine hL43 (6) (0 : Int32) σ38 _ _ _ hp hd hQR hyk hpq hdq hY hsq hQq hLF (by first | assumption | omega) (by omega) h (lv_sub hl [1, 0] rfl) (fun x2_43e σL43e H locs ls eL43 hp hd hQR hyk hpq hdq hY hsq hQq hLF hI43 h hl => ?_)
      have ex2_43e : x2_43e = (f_X6_live_L43 (6) (0 : Int32) σ38).1 := by rw [eL43]
      have eσL43e : σL43e = (f_X6_live_L43 (6) (0 : Int32) σ38).2 := by rw [eL43]
      refine lv_aload_n hx hb dX6_live_66 rfl (lv_at hl 0 rfl) ?_
      refine lv_iconst (v := 1) hx hb dX6_live_67 (by decide) ?_
      refine Mp_33 C h rfl dX6_live_68 (fun σ68 H locs eσ68 h => ?_)
      have hNEW : (0 ≤ (ga σ68 0 (0 : Int32)).toInt ∧ (ga σ68 0 (0 : Int32)).toInt ≤ 6) ∧ (0 ≤ (ga σ68 0 (2 : Int32)).toInt ∧ (ga σ68 0 (2 : Int32)).toInt ≤ 16) ∧ (QR σ68) ∧ (YOK σ68) ∧ ((ga σ68 0 (0 : Int32)).toInt = (ga σ 0 (0 : Int32)).toInt) ∧ ((ga σ68 0 (2 : Int32)).toInt = (ga σ 0 (2 : Int32)).toInt) ∧ (∀ j : Int32, 130 ≤ j.toInt → ga σ68 0 j = ga σ 0 j) ∧ ((ga σ68 0 (9 : Int32)).toInt = (ga σ 0 (9 : Int32)).toInt) ∧ (∀ x : Int32, (0 ≤ x.toInt ∧ x.toInt ≤ 5) → ga σ68 0 ((f_X6_personRow x) + (1 : Int32)) = ga σ 0 ((f_X6_personRow x) + (1 : Int32))) ∧ (MFr σ σ68) := ⟨(by rw [eσ68] <;> exact hp), (by rw [eσ68] <;> exact hd), (by rw [eσ68] <;> exact hQR), (by rw [eσ68] <;> exact hyk), (by rw [eσ68] <;> exact hpq), (by rw [eσ68] <;> exact hdq), (by rw [eσ68] <;> exact hY), (by rw [eσ68] <;> exact hsq), (by rw [eσ68] <;> exact hQq), (by rw [eσ68]; exact (Fr_si (by decide) hLF))⟩
      obtain ⟨hp, hd, hQR, hyk, hpq, hdq, hY, hsq, hQq, hLF⟩ := hNEW
      refine lv_aload_n hx hb dX6_live_71 rfl (lv_at hl 0 rfl) ?_
      refine lv_aload_n hx hb dX6_live_72 rfl (lv_at hl 0 rfl) ?_
      refine Mg_29 C h dX6_live_73 ?_
      refine M_calli (As := [.int (gi σ68 29)]) (rest := []) 1 C h (k_X6_gives l g σ68 (gi σ68 29)) (lw_V q1806 q1808 qs91 q152 q1809) rfl rfl (by decide +kernel) ⟨Nat.le_of_ble_eq_true rfl, Nat.le_of_ble_eq_true rfl⟩ rfl hl.1 rfl (Nat.le_of_ble_eq_true rfl) ⟨Nat.le_of_ble_eq_true rfl, Nat.le_of_ble_eq_true rfl⟩ dX6_live_76 (fun r76 σ76 H locs eσ76 er76 hE76 h => ?_)
      clear hE76
      have hNEW : (0 ≤ (ga σ76 0 (0 : Int32)).toInt ∧ (ga σ76 0 (0 : Int32)).toInt ≤ 6) ∧ (0 ≤ (ga σ76 0 (2 : Int32)).toInt ∧ (ga σ76 0 (2 : Int32)).toInt ≤ 16) ∧ (QR σ76) ∧ (YOK σ76) ∧ ((ga σ76 0 (0 : Int32)).toInt = (ga σ 0 (0 : Int32)).toInt) ∧ ((ga σ76 0 (2 : Int32)).toInt = (ga σ 0 (2 : Int32)).toInt) ∧ (∀ j : Int32, 130 ≤ j.toInt → ga σ76 0 j = ga σ 0 j) ∧ ((ga σ76 0 (9 : Int32)).toInt = (ga σ 0 (9 : Int32)).toInt) ∧ (∀ x : Int32, (0 ≤ x.toInt ∧ x.toInt ≤ 5) → ga σ76 0 ((f_X6_personRow x) + (1 : Int32)) = ga σ 0 ((f_X6_personRow x) + (1 : Int32))) ∧ (MFr σ σ76) := ⟨(by rw [eσ76, gives_s] <;> exact hp), (by rw [eσ76, gives_s] <;> exact hd), (by rw [eσ76, gives_s] <;> exact hQR), (by rw [eσ76, gives_s] <;> exact hyk), (by rw [eσ76, gives_s] <;> exact hpq), (by rw [eσ76, gives_s] <;> exact hdq), (by rw [eσ76, gives_s] <;> exact hY), (by rw [eσ76, gives_s] <;> exact hsq), (by rw [eσ76, gives_s] <;> exact hQq), (by rw [eσ76, gives_s]; exact Fr_si (by decide) hLF)⟩
      clear hp hd hQR hyk hpq hdq hY hsq hQq hLF
      obtain ⟨hp, hd, hQR, hyk, hpq, hdq, hY, hsq, hQq, hLF⟩ := hNEW
      have he : f_X6_live σ p1 = (σ76, r76) := (by have er6 := er6.symm; subst er6; have eσ38 := eσ38.symm; subst eσ38; have ex2_43e := ex2_43e.symm; subst ex2_43e; have eσL43e := eσL43e.symm; subst eσL43e; have eσ68 := eσ68.symm; subst eσ68; have eσ76 := eσ76.symm; subst eσ76; have er76 := er76.symm; subst er76; exact ((if_neg c9).trans ((if_neg c26).trans rfl)))
      exact M_reti C h hr hlocks (congrArg Prod.fst he) (congrArg Prod.snd he) ⟨hpq, hdq, hY, hsq, hQq, hLF⟩ dX6_live_79
    · have i26 := c_eq c26
      refine lv_aload_n hx hb dX6_live_29 rfl (lv_at hl 0 rfl) ?_
      refine lv_bipush (v := 6) hx hb dX6_live_30 (by decide) ?_
      refine M_calli (As := [.int (6 : Int32)]) (rest := []) 1 C h (k_X6_refuse l g σ (6 : Int32)) (lw_V q1723 q1725 qs71 q152 q1726) rfl rfl (by decide +kernel) ⟨Nat.le_of_ble_eq_true rfl, Nat.le_of_ble_eq_true rfl⟩ rfl hl.1 rfl (Nat.le_of_ble_eq_true rfl) ⟨Nat.le_of_ble_eq_true rfl, Nat.le_of_ble_eq_true rfl⟩ dX6_live_32 (fun r32 σ32 H locs eσ32 er32 hE32 h => ?_)
      clear hE32
      have hNEW : (0 ≤ (ga σ32 0 (0 : Int32)).toInt ∧ (ga σ32 0 (0 : Int32)).toInt ≤ 6) ∧ (0 ≤ (ga σ32 0 (2 : Int32)).toInt ∧ (ga σ32 0 (2 : Int32)).toInt ≤ 16) ∧ (QR σ32) ∧ (YOK σ32) ∧ ((ga σ32 0 (0 : Int32)).toInt = (ga σ 0 (0 : Int32)).toInt) ∧ ((ga σ32 0 (2 : Int32)).toInt = (ga σ 0 (2 : Int32)).toInt) ∧ (∀ j : Int32, 130 ≤ j.toInt → ga σ32 0 j = ga σ 0 j) ∧ ((ga σ32 0 (9 : Int32)).toInt = (ga σ 0 (9 : Int32)).toInt) ∧ (∀ x : Int32, (0 ≤ x.toInt ∧ x.toInt ≤ 5) → ga σ32 0 ((f_X6_personRow x) + (1 : Int32)) = ga σ 0 ((f_X6_personRow x) + (1 : Int32))) ∧ (MFr σ σ32) := ⟨(by rw [eσ32, refuse_s] <;> exact hp), (by rw [eσ32, refuse_s] <;> exact hd), (by rw [eσ32, refuse_s] <;> exact hQR), (by rw [eσ32, refuse_s] <;> exact hyk), (by rw [eσ32, refuse_s] <;> exact hpq), (by rw [eσ32, refuse_s] <;> exact hdq), (by rw [eσ32, refuse_s] <;> exact hY), (by rw [eσ32, refuse_s] <;> exact hsq), (by rw [eσ32, refuse_s] <;> exact hQq), (by rw [eσ32, refuse_s]; exact Fr_si (by decide) hLF)⟩
      obtain ⟨hp, hd, hQR, hyk, hpq, hdq, hY, hsq, hQq, hLF⟩ := hNEW
      have he : f_X6_live σ p1 = (σ32, r32) := (by have er6 := er6.symm; subst er6; have eσ32 := eσ32.symm; subst eσ32; have er32 := er32.symm; subst er32; exact ((if_neg c9).trans ((if_pos c26).trans rfl)))
      exact M_reti C h hr hlocks (congrArg Prod.fst he) (congrArg Prod.snd he) ⟨hpq, hdq, hY, hsq, hQq, hLF⟩ dX6_live_35
  · have i9 := c_eq c9
    refine lv_aload_n hx hb dX6_live_12 rfl (lv_at hl 0 rfl) ?_
    refine lv_iconst (v := 1) hx hb dX6_live_13 (by decide) ?_
    refine M_calli (As := [.int (1 : Int32)]) (rest := []) 1 C h (k_X6_refuse l g σ (1 : Int32)) (lw_V q1723 q1725 qs71 q152 q1726) rfl rfl (by decide +kernel) ⟨Nat.le_of_ble_eq_true rfl, Nat.le_of_ble_eq_true rfl⟩ rfl hl.1 rfl (Nat.le_of_ble_eq_true rfl) ⟨Nat.le_of_ble_eq_true rfl, Nat.le_of_ble_eq_true rfl⟩ dX6_live_14 (fun r14 σ14 H locs eσ14 er14 hE14 h => ?_)
    clear hE14
    have hNEW : (0 ≤ (ga σ14 0 (0 : Int32)).toInt ∧ (ga σ14 0 (0 : Int32)).toInt ≤ 6) ∧ (0 ≤ (ga σ14 0 (2 : Int32)).toInt ∧ (ga σ14 0 (2 : Int32)).toInt ≤ 16) ∧ (QR σ14) ∧ (YOK σ14) ∧ ((ga σ14 0 (0 : Int32)).toInt = (ga σ 0 (0 : Int32)).toInt) ∧ ((ga σ14 0 (2 : Int32)).toInt = (ga σ 0 (2 : Int32)).toInt) ∧ (∀ j : Int32, 130 ≤ j.toInt → ga σ14 0 j = ga σ 0 j) ∧ ((ga σ14 0 (9 : Int32)).toInt = (ga σ 0 (9 : Int32)).toInt) ∧ (∀ x : Int32, (0 ≤ x.toInt ∧ x.toInt ≤ 5) → ga σ14 0 ((f_X6_personRow x) + (1 : Int32)) = ga σ 0 ((f_X6_personRow x) + (1 : Int32))) ∧ (MFr σ σ14) := ⟨(by rw [eσ14, refuse_s] <;> exact hp), (by rw [eσ14, refuse_s] <;> exact hd), (by rw [eσ14, refuse_s] <;> exact hQR), (by rw [eσ14, refuse_s] <;> exact hyk), (by rw [eσ14, refuse_s] <;> exact hpq), (by rw [eσ14, refuse_s] <;> exact hdq), (by rw [eσ14, refuse_s] <;> exact hY), (by rw [eσ14, refuse_s] <;> exact hsq), (by rw [eσ14, refuse_s] <;> exact hQq), (by rw [eσ14, refuse_s]; exact Fr_si (by decide) hLF)⟩
    obtain ⟨hp, hd, hQR, hyk, hpq, hdq, hY, hsq, hQq, hLF⟩ := hNEW
    have he : f_X6_live σ p1 = (σ14, r14) := (by have er6 := er6.symm; subst er6; have eσ14 := eσ14.symm; subst eσ14; have er14 := er14.symm; subst er14; exact ((if_pos c9).trans rfl))
    exact M_reti C h hr hlocks (congrArg Prod.fst he) (congrArg Prod.snd he) ⟨hpq, hdq, hY, hsq, hQq, hLF⟩ dX6_live_17
def f_X6_mean_L70 (y1_70 : Int32) (y2_70 : Int32) (y3_70 : Int32) : Nat → Int32 → MS → Int32 × MS
  | 0, x4_70, σL70 => (x4_70, σL70)
  | n + 1, x4_70, σL70 => if (130 : Int32) ≤ x4_70 then ((x4_70, σL70)) else ((let σ95 := sa σL70 0 ((2500 : Int32) + x4_70) (ga σL70 0 x4_70); f_X6_mean_L70 y1_70 y2_70 y3_70 n (x4_70 + (1 : Int32)) σ95))
def f_X6_mean_L142 (y1_142 : Int32) (y2_142 : Int32) (y3_142 : Int32) (y4_142 : Int64) (y6_142 : Int32) : Nat → Int32 → MS → Int32 × MS
  | 0, x7_142, σL142 => (x7_142, σL142)
  | n + 1, x7_142, σL142 => if (130 : Int32) ≤ x7_142 then ((x7_142, σL142)) else ((let σ167 := sa σL142 0 x7_142 (ga σL142 0 ((2500 : Int32) + x7_142)); f_X6_mean_L142 y1_142 y2_142 y3_142 y4_142 y6_142 n (x7_142 + (1 : Int32)) σ167))
def f_X6_mean_L108 (y1_108 : Int32) (y2_108 : Int32) (y3_108 : Int32) : Nat → Int64 → Int32 → MS → Int64 × Int32 × MS
  | 0, x4_108, x6_108, σL108 => (x4_108, x6_108, σL108)
  | n + 1, x4_108, x6_108, σL108 => if y3_108 ≤ x6_108 then ((x4_108, x6_108, σL108)) else ((let σ119 := (f_X6_lives σL108 (y2_108 + x6_108)); let r129 := (f_X6_personRow y1_108); let v137 := (x4_108 + (ga σ119 0 (r129 + (5 : Int32))).toInt64); (let zL142 := f_X6_mean_L142 y1_108 y2_108 y3_108 v137 x6_108 (131) (0 : Int32) σ119; let x7_142e := zL142.1; let σL142e := zL142.2; f_X6_mean_L108 y1_108 y2_108 y3_108 n v137 (x6_108 + (1 : Int32)) σL142e)))
def f_X6_mean (σ : MS) (p1 : Int32) (p2 : Int32) (p3 : Int32) : MS × Int32 := (let r2 := (f_X6_isPerson σ p1); if r2 = (0 : Int32) then ((let z45 := (f_X6_is σ (1 : Int32)); let σ45 := z45.1; let r45 := z45.2; (σ45, r45))) else ((let r14 := (f_X6_isFrom p2.toInt64 (0 : Int64) (9999 : Int64)); if r14 = (0 : Int32) then ((let z45 := (f_X6_is σ (1 : Int32)); let σ45 := z45.1; let r45 := z45.2; (σ45, r45))) else ((let r26 := (f_X6_isFrom p3.toInt64 (1 : Int64) (20 : Int64)); if r26 = (0 : Int32) then ((let z45 := (f_X6_is σ (1 : Int32)); let σ45 := z45.1; let r45 := z45.2; (σ45, r45))) else (if ((p2 + p3) - (1 : Int32)) ≤ (9999 : Int32) then (if (ga σ 0 (9 : Int32)) = (-1 : Int32) then ((let z63 := (f_X6_is σ (6 : Int32)); let σ63 := z63.1; let r63 := z63.2; (σ63, r63))) else ((let zL70 := f_X6_mean_L70 p1 p2 p3 (131) (0 : Int32) σ; let x4_70e := zL70.1; let σL70e := zL70.2; (let zL108 := f_X6_mean_L108 p1 p2 p3 (21) (0 : Int64) (0 : Int32) σL70e; let x4_108e := zL108.1; let x6_108e := zL108.2.1; let σL108e := zL108.2.2; (let z185 := (f_X6_tellsBy σL108e x4_108e p3.toInt64); let σ185 := z185.1; let r185 := z185.2; (σ185, r185)))))) else ((let z45 := (f_X6_is σ (1 : Int32)); let σ45 := z45.1; let r45 := z45.2; (σ45, r45)))))))))
set_option maxHeartbeats 4000000 in
set_option maxRecDepth 100000 in
theorem k_X6_mean (l : Launch) (g : GE) (σ : MS) (p1 : Int32) (p2 : Int32) (p3 : Int32) (hp : 0 ≤ (ga σ 0 (0 : Int32)).toInt ∧ (ga σ 0 (0 : Int32)).toInt ≤ 6) (hd : 0 ≤ (ga σ 0 (2 : Int32)).toInt ∧ (ga σ 0 (2 : Int32)).toInt ≤ 16) (hQR : QR σ) (hyk : YOK σ) : Met l yX6_mean (ws_ yX6_mean cX6_mean 8 (some .boolean)) ({ frames := 9, cells := 0, slots := 0, locals := 205 } : Room) (mPc g σ [.int p1, .int p2, .int p3]) (mQz g (f_X6_mean σ p1 p2 p3).1 (f_X6_mean σ p1 p2 p3).2 (fun u r => ((ga u 0 (0 : Int32)).toInt = (ga σ 0 (0 : Int32)).toInt) ∧ ((ga u 0 (2 : Int32)).toInt = (ga σ 0 (2 : Int32)).toInt) ∧ (∀ j : Int32, 0 ≤ j.toInt → j.toInt < 2500 → ga u 0 j = ga σ 0 j))) 0 0 (mA g) := by
  refine met_M (by decide) rfl (Nat.le_of_ble_eq_true rfl) ?_
  intro p e s m args below meth c C hr hlocks h ls hl
  have hx := C.1.1
  have hb := C.1.2.1
  have hml := C.1.2.2.1
  have hown := C.1.2.2.2.1
  have hts := C.1.2.2.2.2
  have hl : lv_has ls 8 [(0, .ref (g.2.1 99)), (1, .int p1), (2, .int p2), (3, .int p3)] := hl
  have hpq : (ga σ 0 (0 : Int32)).toInt = (ga σ 0 (0 : Int32)).toInt := rfl
  have hdq : (ga σ 0 (2 : Int32)).toInt = (ga σ 0 (2 : Int32)).toInt := rfl
  have hE : ∀ j : Int32, 0 ≤ j.toInt → j.toInt < 2500 → ga σ 0 j = ga σ 0 j := fun _ _ _ => rfl
  have zlm1 : (-1 : Int32).toInt = -1 := rfl
  have zl0 : (0 : Int32).toInt = 0 := rfl
  have zl1 : (1 : Int32).toInt = 1 := rfl
  have zl2 : (2 : Int32).toInt = 2 := rfl
  have zl5 : (5 : Int32).toInt = 5 := rfl
  have zl6 : (6 : Int32).toInt = 6 := rfl
  have zl8 : (8 : Int32).toInt = 8 := rfl
  have zl9 : (9 : Int32).toInt = 9 := rfl
  have zl12 : (12 : Int32).toInt = 12 := rfl
  have zl130 : (130 : Int32).toInt = 130 := rfl
  have zl2500 : (2500 : Int32).toInt = 2500 := rfl
  have zl9999 : (9999 : Int32).toInt = 9999 := rfl
  have hp0 := hp
  have hd0 := hd
  have hQR0 := hQR
  have hyk0 := hyk
  have zl2500 : (2500 : Int32).toInt = 2500 := rfl
  refine lv_aload_n hx hb dX6_mean_0 rfl (lv_at hl 0 rfl) ?_
  refine lv_iload_n hx hb dX6_mean_1 rfl (lv_at hl 1 rfl) ?_
  refine M_callz (As := [.int p1]) (rest := []) 1 C h (k_X6_isPerson l g σ p1) (lw_V q1864 q1866 qs101 q152 q1867) rfl rfl (by decide +kernel) ⟨Nat.le_of_ble_eq_true rfl, Nat.le_of_ble_eq_true rfl⟩ rfl hl.1 rfl (Nat.le_of_ble_eq_true rfl) ⟨Nat.le_of_ble_eq_true rfl, Nat.le_of_ble_eq_true rfl⟩ dX6_mean_2 (fun r2 σ2 H locs eσ2 er2 br2 hE2 h => ?_)
  rw [eσ2] at h
  clear hE2
  clear eσ2
  refine lv_if_eq (tgt := 43) hx hb dX6_mean_5 (by decide) (fun c5 => ?_) (fun c5 => ?_)
  · have i5 := c_eq c5
    refine lv_aload_n hx hb dX6_mean_43 rfl (lv_at hl 0 rfl) ?_
    refine lv_iconst (v := 1) hx hb dX6_mean_44 (by decide) ?_
    refine M_callz (As := [.int (1 : Int32)]) (rest := []) 1 C h (k_X6_is l g σ (1 : Int32)) (lw_V q1663 q1665 qs65 q152 q1666) rfl rfl (by decide +kernel) ⟨Nat.le_of_ble_eq_true rfl, Nat.le_of_ble_eq_true rfl⟩ rfl hl.1 rfl (Nat.le_of_ble_eq_true rfl) ⟨Nat.le_of_ble_eq_true rfl, Nat.le_of_ble_eq_true rfl⟩ dX6_mean_45 (fun r45 σ45 H locs eσ45 er45 br45 hE45 h => ?_)
    clear hE45
    have hNEW : (0 ≤ (ga σ45 0 (0 : Int32)).toInt ∧ (ga σ45 0 (0 : Int32)).toInt ≤ 6) ∧ (0 ≤ (ga σ45 0 (2 : Int32)).toInt ∧ (ga σ45 0 (2 : Int32)).toInt ≤ 16) ∧ (QR σ45) ∧ (YOK σ45) ∧ ((ga σ45 0 (0 : Int32)).toInt = (ga σ 0 (0 : Int32)).toInt) ∧ ((ga σ45 0 (2 : Int32)).toInt = (ga σ 0 (2 : Int32)).toInt) ∧ (∀ j : Int32, 0 ≤ j.toInt → j.toInt < 2500 → ga σ45 0 j = ga σ 0 j) := ⟨(by rw [eσ45, is_s] <;> exact hp), (by rw [eσ45, is_s] <;> exact hd), (by rw [eσ45, is_s] <;> exact hQR), (by rw [eσ45, is_s] <;> exact hyk), (by rw [eσ45, is_s] <;> exact hpq), (by rw [eσ45, is_s] <;> exact hdq), (fun j h0 h1 => by rw [eσ45, is_s]; exact hE j h0 h1)⟩
    obtain ⟨hp, hd, hQR, hyk, hpq, hdq, hE⟩ := hNEW
    have he : f_X6_mean σ p1 p2 p3 = (σ45, r45) := (by have er2 := er2.symm; subst er2; have eσ45 := eσ45.symm; subst eσ45; have er45 := er45.symm; subst er45; exact ((if_pos c5).trans rfl))
    exact M_retz C h hr hlocks (congrArg Prod.fst he) (congrArg Prod.snd he) br45 ⟨hpq, hdq, hE⟩ dX6_mean_48
  · have i5 := c_ne c5
    have okr2 := isPerson_ok er2 c5
    refine lv_iload_n hx hb dX6_mean_8 rfl (lv_at hl 2 rfl) ?_
    refine lv_i2l (v := p2.toInt64) hx hb dX6_mean_9 rfl ?_
    refine lv_lconst (v := 0) hx hb dX6_mean_10 (by decide) ?_
    refine lv_ldc2 hx hb hown (hts _ q1956) dX6_mean_11 ?_
    refine s_callz (As := [.long p2.toInt64, .long (0 : Int64), .long (9999 : Int64)]) (rest := []) 3 C.1 (k_X6_isFrom l p2.toInt64 (0 : Int64) (9999 : Int64)) (lw_S q1936 q1937 q152 q1938) rfl rfl (by decide +kernel) ⟨Nat.le_of_ble_eq_true rfl, Nat.le_of_ble_eq_true rfl⟩ rfl hl.1 rfl (Nat.le_of_ble_eq_true rfl) ⟨Nat.le_of_ble_eq_true rfl, Nat.le_of_ble_eq_true rfl⟩ dX6_mean_14 h.2.2 (fun r14 H locs er14 br14 hz1 hk1 hS1 => ?_)
    have h := h.same hk1 hS1
    clear hz1 hk1 hS1
    refine lv_if_eq (tgt := 43) hx hb dX6_mean_17 (by decide) (fun c17 => ?_) (fun c17 => ?_)
    · have i17 := c_eq c17
      refine lv_aload_n hx hb dX6_mean_43 rfl (lv_at hl 0 rfl) ?_
      refine lv_iconst (v := 1) hx hb dX6_mean_44 (by decide) ?_
      refine M_callz (As := [.int (1 : Int32)]) (rest := []) 1 C h (k_X6_is l g σ (1 : Int32)) (lw_V q1663 q1665 qs65 q152 q1666) rfl rfl (by decide +kernel) ⟨Nat.le_of_ble_eq_true rfl, Nat.le_of_ble_eq_true rfl⟩ rfl hl.1 rfl (Nat.le_of_ble_eq_true rfl) ⟨Nat.le_of_ble_eq_true rfl, Nat.le_of_ble_eq_true rfl⟩ dX6_mean_45 (fun r45 σ45 H locs eσ45 er45 br45 hE45 h => ?_)
      clear hE45
      have hNEW : (0 ≤ (ga σ45 0 (0 : Int32)).toInt ∧ (ga σ45 0 (0 : Int32)).toInt ≤ 6) ∧ (0 ≤ (ga σ45 0 (2 : Int32)).toInt ∧ (ga σ45 0 (2 : Int32)).toInt ≤ 16) ∧ (QR σ45) ∧ (YOK σ45) ∧ ((ga σ45 0 (0 : Int32)).toInt = (ga σ 0 (0 : Int32)).toInt) ∧ ((ga σ45 0 (2 : Int32)).toInt = (ga σ 0 (2 : Int32)).toInt) ∧ (∀ j : Int32, 0 ≤ j.toInt → j.toInt < 2500 → ga σ45 0 j = ga σ 0 j) := ⟨(by rw [eσ45, is_s] <;> exact hp), (by rw [eσ45, is_s] <;> exact hd), (by rw [eσ45, is_s] <;> exact hQR), (by rw [eσ45, is_s] <;> exact hyk), (by rw [eσ45, is_s] <;> exact hpq), (by rw [eσ45, is_s] <;> exact hdq), (fun j h0 h1 => by rw [eσ45, is_s]; exact hE j h0 h1)⟩
      obtain ⟨hp, hd, hQR, hyk, hpq, hdq, hE⟩ := hNEW
      have he : f_X6_mean σ p1 p2 p3 = (σ45, r45) := (by have er2 := er2.symm; subst er2; have er14 := er14.symm; subst er14; have eσ45 := eσ45.symm; subst eσ45; have er45 := er45.symm; subst er45; exact ((if_neg c5).trans ((if_pos c17).trans rfl)))
      exact M_retz C h hr hlocks (congrArg Prod.fst he) (congrArg Prod.snd he) br45 ⟨hpq, hdq, hE⟩ dX6_mean_48
    · have i17 := c_ne c17
      have okr14 := isFrom_ok er14 c17
      refine lv_iload_n hx hb dX6_mean_20 rfl (lv_at hl 3 rfl) ?_
      refine lv_i2l (v := p3.toInt64) hx hb dX6_mean_21 rfl ?_
      refine lv_lconst (v := 1) hx hb dX6_mean_22 (by decide) ?_
      refine lv_ldc2 hx hb hown (hts _ q2252) dX6_mean_23 ?_
      refine s_callz (As := [.long p3.toInt64, .long (1 : Int64), .long (20 : Int64)]) (rest := []) 3 C.1 (k_X6_isFrom l p3.toInt64 (1 : Int64) (20 : Int64)) (lw_S q1936 q1937 q152 q1938) rfl rfl (by decide +kernel) ⟨Nat.le_of_ble_eq_true rfl, Nat.le_of_ble_eq_true rfl⟩ rfl hl.1 rfl (Nat.le_of_ble_eq_true rfl) ⟨Nat.le_of_ble_eq_true rfl, Nat.le_of_ble_eq_true rfl⟩ dX6_mean_26 h.2.2 (fun r26 H locs er26 br26 hz1 hk1 hS1 => ?_)
      have h := h.same hk1 hS1
      clear hz1 hk1 hS1
      refine lv_if_eq (tgt := 43) hx hb dX6_mean_29 (by decide) (fun c29 => ?_) (fun c29 => ?_)
      · have i29 := c_eq c29
        refine lv_aload_n hx hb dX6_mean_43 rfl (lv_at hl 0 rfl) ?_
        refine lv_iconst (v := 1) hx hb dX6_mean_44 (by decide) ?_
        refine M_callz (As := [.int (1 : Int32)]) (rest := []) 1 C h (k_X6_is l g σ (1 : Int32)) (lw_V q1663 q1665 qs65 q152 q1666) rfl rfl (by decide +kernel) ⟨Nat.le_of_ble_eq_true rfl, Nat.le_of_ble_eq_true rfl⟩ rfl hl.1 rfl (Nat.le_of_ble_eq_true rfl) ⟨Nat.le_of_ble_eq_true rfl, Nat.le_of_ble_eq_true rfl⟩ dX6_mean_45 (fun r45 σ45 H locs eσ45 er45 br45 hE45 h => ?_)
        clear hE45
        have hNEW : (0 ≤ (ga σ45 0 (0 : Int32)).toInt ∧ (ga σ45 0 (0 : Int32)).toInt ≤ 6) ∧ (0 ≤ (ga σ45 0 (2 : Int32)).toInt ∧ (ga σ45 0 (2 : Int32)).toInt ≤ 16) ∧ (QR σ45) ∧ (YOK σ45) ∧ ((ga σ45 0 (0 : Int32)).toInt = (ga σ 0 (0 : Int32)).toInt) ∧ ((ga σ45 0 (2 : Int32)).toInt = (ga σ 0 (2 : Int32)).toInt) ∧ (∀ j : Int32, 0 ≤ j.toInt → j.toInt < 2500 → ga σ45 0 j = ga σ 0 j) := ⟨(by rw [eσ45, is_s] <;> exact hp), (by rw [eσ45, is_s] <;> exact hd), (by rw [eσ45, is_s] <;> exact hQR), (by rw [eσ45, is_s] <;> exact hyk), (by rw [eσ45, is_s] <;> exact hpq), (by rw [eσ45, is_s] <;> exact hdq), (fun j h0 h1 => by rw [eσ45, is_s]; exact hE j h0 h1)⟩
        obtain ⟨hp, hd, hQR, hyk, hpq, hdq, hE⟩ := hNEW
        have he : f_X6_mean σ p1 p2 p3 = (σ45, r45) := (by have er2 := er2.symm; subst er2; have er14 := er14.symm; subst er14; have er26 := er26.symm; subst er26; have eσ45 := eσ45.symm; subst eσ45; have er45 := er45.symm; subst er45; exact ((if_neg c5).trans ((if_neg c17).trans ((if_pos c29).trans rfl))))
        exact M_retz C h hr hlocks (congrArg Prod.fst he) (congrArg Prod.snd he) br45 ⟨hpq, hdq, hE⟩ dX6_mean_48
      · have i29 := c_ne c29
        have okr26 := isFrom_ok er26 c29
        refine lv_iload_n hx hb dX6_mean_32 rfl (lv_at hl 2 rfl) ?_
        refine lv_iload_n hx hb dX6_mean_33 rfl (lv_at hl 3 rfl) ?_
        refine lv_iadd hx hb dX6_mean_34 ?_
        refine lv_iconst (v := 1) hx hb dX6_mean_35 (by decide) ?_
        refine lv_isub hx hb dX6_mean_36 ?_
        refine lv_sipush (v := 9999) hx hb dX6_mean_37 (by decide) ?_
        refine lv_icmp_le (tgt := 49) hx hb dX6_mean_40 (by decide) (fun c40 => ?_) (fun c40 => ?_)
        · have i40 := c_le c40
          refine lv_aload_n hx hb dX6_mean_49 rfl (lv_at hl 0 rfl) ?_
          refine Mg_0 C h dX6_mean_50 ?_
          refine lv_bipush (v := 9) hx hb dX6_mean_53 (by decide) ?_
          refine Ml_0 C h (ix_of zl9 (by omega)) dX6_mean_55 ?_
          refine lv_iconst (v := -1) hx hb dX6_mean_56 (by decide) ?_
          refine lv_icmp_ne (tgt := 67) hx hb dX6_mean_57 (by decide) (fun c57 => ?_) (fun c57 => ?_)
          · have i57 := c_ne c57
            have kk14 := isFrom_i (A := 0) (B := 9999) rfl rfl okr14
            have kk26 := isFrom_i (A := 1) (B := 20) rfl rfl okr26
            refine lv_iconst (v := 0) hx hb dX6_mean_67 (by decide) ?_
            refine lv_istore (lv' := [(4, .int (0 : Int32)), (0, .ref (g.2.1 99)), (1, .int p1), (2, .int p2), (3, .int p3)]) hx hb dX6_mean_68 hl (by decide) rfl (fun ls hl => ?_)
            have hL70 : ∀ (n : Nat) (x4_70 : Int32) (σL70 : MS) (H : Heap) (locs : List Loc) (ls : Array Slot), (0 ≤ (ga σL70 0 (0 : Int32)).toInt ∧ (ga σL70 0 (0 : Int32)).toInt ≤ 6) → (0 ≤ (ga σL70 0 (2 : Int32)).toInt ∧ (ga σL70 0 (2 : Int32)).toInt ≤ 16) → (QR σL70) → (YOK σL70) → ((ga σL70 0 (0 : Int32)).toInt = (ga σ 0 (0 : Int32)).toInt) → ((ga σL70 0 (2 : Int32)).toInt = (ga σ 0 (2 : Int32)).toInt) → (∀ j : Int32, 0 ≤ j.toInt → j.toInt < 2500 → ga σL70 0 j = ga σ 0 j) → (0 ≤ x4_70.toInt ∧ x4_70.toInt ≤ 130 ∧ (∀ j : Int32, 0 ≤ j.toInt → j.toInt < x4_70.toInt → ga σL70 0 ((2500 : Int32) + j) = ga σ 0 j)) → (130 - x4_70.toInt).toNat < n → MH g σL70 s H locs → lv_has ls 8 [(0, .ref (g.2.1 99)), (1, .int p1), (2, .int p2), (3, .int p3), (4, .int x4_70)] → (∀ (x4_70' : Int32) (σL70' : MS) (H : Heap) (locs : List Loc) (ls : Array Slot), f_X6_mean_L70 p1 p2 p3 n x4_70 σL70 = (x4_70', σL70') → (0 ≤ (ga σL70' 0 (0 : Int32)).toInt ∧ (ga σL70' 0 (0 : Int32)).toInt ≤ 6) → (0 ≤ (ga σL70' 0 (2 : Int32)).toInt ∧ (ga σL70' 0 (2 : Int32)).toInt ≤ 16) → (QR σL70') → (YOK σL70') → ((ga σL70' 0 (0 : Int32)).toInt = (ga σ 0 (0 : Int32)).toInt) → ((ga σL70' 0 (2 : Int32)).toInt = (ga σ 0 (2 : Int32)).toInt) → (∀ j : Int32, 0 ≤ j.toInt → j.toInt < 2500 → ga σL70' 0 j = ga σ 0 j) → (x4_70'.toInt = 130 ∧ True ∧ (∀ j : Int32, 0 ≤ j.toInt → j.toInt < 130 → ga σL70' 0 ((2500 : Int32) + j) = ga σ 0 j)) → MH g σL70' s H locs → lv_has ls 8 [(0, .ref (g.2.1 99)), (1, .int p1), (2, .int p2), (3, .int p3)] → W p l e ({ frames := 9, cells := 0, slots := 0, locals := 205 } : Room) s m args below meth c H locs 0 0 (MQ below (mQz g (f_X6_mean σ p1 p2 p3).1 (f_X6_mean σ p1 p2 p3).2 (fun u r => ((ga u 0 (0 : Int32)).toInt = (ga σ 0 (0 : Int32)).toInt) ∧ ((ga u 0 (2 : Int32)).toInt = (ga σ 0 (2 : Int32)).toInt) ∧ (∀ j : Int32, 0 ≤ j.toInt → j.toInt < 2500 → ga u 0 j = ga σ 0 j))) args s 0 0 (mA g)) (F0 m 102 ls [])) → W p l e ({ frames := 9, cells := 0, slots := 0, locals := 205 } : Room) s m args below meth c H locs 0 0 (MQ below (mQz g (f_X6_mean σ p1 p2 p3).1 (f_X6_mean σ p1 p2 p3).2 (fun u r => ((ga u 0 (0 : Int32)).toInt = (ga σ 0 (0 : Int32)).toInt) ∧ ((ga u 0 (2 : Int32)).toInt = (ga σ 0 (2 : Int32)).toInt) ∧ (∀ j : Int32, 0 ≤ j.toInt → j.toInt < 2500 → ga u 0 j = ga σ 0 j))) args s 0 0 (mA g)) (F0 m 70 ls []) := by
              intro n
              induction n with
              | zero =>
                intro x4_70 σL70 H locs ls hp hd hQR hyk hpq hdq hE _ hm; exact absurd hm (Nat.not_lt_zero _)
              | succ n ih =>
                intro x4_70 σL70 H locs ls hp hd hQR hyk hpq hdq hE hI70 hm h hl kk
                have hEk := hE
                refine lv_iload hx hb dX6_mean_70 (lv_at hl 4 rfl) ?_
                refine lv_sipush (v := 130) hx hb dX6_mean_72 (by decide) ?_
                refine lv_icmp_ge (tgt := 102) hx hb dX6_mean_75 (by decide) (fun c75 => ?_) (fun c75 => ?_)
                · have i75 := c_le c75
                  exact kk x4_70 σL70 _ _ _ (show f_X6_mean_L70 p1 p2 p3 (n + 1) x4_70 σL70 = (x4_70, σL70) from (by exact ((if_pos c75).trans rfl))) hp hd hQR hyk hpq hdq hE ⟨by omega, trivial, fun j h0 h1 => hI70.2.2 j h0 (by omega)⟩ h (lv_sub hl [0, 1, 2, 3] rfl)
                · have i75 := c_nle c75
                  refine lv_aload_n hx hb dX6_mean_78 rfl (lv_at hl 0 rfl) ?_
                  refine Mg_0 C h dX6_mean_79 ?_
                  refine lv_sipush (v := 2500) hx hb dX6_mean_82 (by decide) ?_
                  refine lv_iload hx hb dX6_mean_85 (lv_at hl 4 rfl) ?_
                  refine lv_iadd hx hb dX6_mean_87 ?_
                  refine lv_aload_n hx hb dX6_mean_88 rfl (lv_at hl 0 rfl) ?_
                  refine Mg_0 C h dX6_mean_89 ?_
                  refine lv_iload hx hb dX6_mean_92 (lv_at hl 4 rfl) ?_
                  refine Ml_0 C h (ix_of (rfl : x4_70.toInt = x4_70.toInt) (by omega)) dX6_mean_94 ?_
                  refine Ms_0 C h (ix_of (i_add zl2500 (rfl : x4_70.toInt = x4_70.toInt) (by omega)) (by omega)) dX6_mean_95 (fun σ95 H locs eσ95 h => ?_)
                  have hNEW : (0 ≤ (ga σ95 0 (0 : Int32)).toInt ∧ (ga σ95 0 (0 : Int32)).toInt ≤ 6) ∧ (0 ≤ (ga σ95 0 (2 : Int32)).toInt ∧ (ga σ95 0 (2 : Int32)).toInt ≤ 16) ∧ (QR σ95) ∧ (YOK σ95) ∧ ((ga σ95 0 (0 : Int32)).toInt = (ga σ 0 (0 : Int32)).toInt) ∧ ((ga σ95 0 (2 : Int32)).toInt = (ga σ 0 (2 : Int32)).toInt) ∧ (∀ j : Int32, 0 ≤ j.toInt → j.toInt < 2500 → ga σ95 0 j = ga σ 0 j) := ⟨(by rw [eσ95, ga_sa_ne (j := (0 : Int32)) (i_add zl2500 (rfl : x4_70.toInt = x4_70.toInt) (by omega)) zl0 (by omega)] <;> exact hp), (by rw [eσ95, ga_sa_ne (j := (2 : Int32)) (i_add zl2500 (rfl : x4_70.toInt = x4_70.toInt) (by omega)) zl2 (by omega)] <;> exact hd), (by rw [eσ95]; exact (QR_sa (i_add zl2500 (rfl : x4_70.toInt = x4_70.toInt) (by omega)) (by omega) hQR)), (by rw [eσ95]; exact (YOK_sa (i_add zl2500 (rfl : x4_70.toInt = x4_70.toInt) (by omega)) (by omega) hyk)), (by rw [eσ95, ga_sa_ne (j := (0 : Int32)) (i_add zl2500 (rfl : x4_70.toInt = x4_70.toInt) (by omega)) zl0 (by omega)] <;> exact hpq), (by rw [eσ95, ga_sa_ne (j := (2 : Int32)) (i_add zl2500 (rfl : x4_70.toInt = x4_70.toInt) (by omega)) zl2 (by omega)] <;> exact hdq), (by rw [eσ95]; exact (fun j h0 h1 => (ga_sa_ne (i_add zl2500 (rfl : x4_70.toInt = x4_70.toInt) (by omega)) rfl (by omega)).trans (hE j h0 h1)))⟩
                  obtain ⟨hp, hd, hQR, hyk, hpq, hdq, hE⟩ := hNEW
                  refine lv_iinc (v := (x4_70 + (1 : Int32))) (lv' := [(4, .int (x4_70 + (1 : Int32))), (0, .ref (g.2.1 99)), (1, .int p1), (2, .int p2), (3, .int p3)]) hx hb dX6_mean_96 hl (k := 4) rfl rfl (by decide) rfl (fun ls hl => ?_)
                  refine lv_goto (tgt := 70) hx hb dX6_mean_99 (by decide) ?_
                  have tt4 : (x4_70 + (1 : Int32)).toInt = (x4_70.toInt + (1)) := (i_add (rfl : x4_70.toInt = x4_70.toInt) zl1 (by omega))
                  exact ih (x4_70 + (1 : Int32)) σ95 _ _ _ hp hd hQR hyk hpq hdq hE ⟨by omega, by omega, fun j h0 h1 => by rw [eσ95]; exact work_sa (k := x4_70) (by omega) rfl (hEk x4_70 (by omega) (by omega)) hI70.2.2 j h0 (by omega)⟩ (by omega) h (lv_sub hl [1, 2, 3, 4, 0] rfl) (fun x4_70' σL70' H locs ls en hp hd hQR hyk hpq hdq hE hI h hl => kk x4_70' σL70' H locs ls ((show f_X6_mean_L70 p1 p2 p3 (n + 1) x4_70 σL70 = f_X6_mean_L70 p1 p2 p3 n (x4_70 + (1 : Int32)) σ95 from (by have eσ95 := eσ95.symm; subst eσ95; exact ((if_neg c75).trans rfl))).trans en) hp hd hQR hyk hpq hdq hE hI h hl)
            refine hL70 (131) (0 : Int32) σ _ _ _ hp hd hQR hyk hpq hdq hE ⟨by omega, by omega, fun j h0 h1 => absurd h1 (by omega)⟩ (by omega) h (lv_sub hl [1, 2, 3, 4, 0] rfl) (fun x4_70e σL70e H locs ls eL70 hp hd hQR hyk hpq hdq hE hI70 h hl => ?_)
            have ex4_70e : x4_70e = (f_X6_mean_L70 p1 p2 p3 (131) (0 : Int32) σ).1 := by rw [eL70]
            have eσL70e : σL70e = (f_X6_mean_L70 p1 p2 p3 (131) (0 : Int32) σ).2 := by rw [eL70]
            refine lv_lconst (v := 0) hx hb dX6_mean_102 (by decide) ?_
            have hW2 : ∀ j : Int32, 0 ≤ j.toInt → j.toInt < 130 → ga σL70e 0 ((2500 : Int32) + j) = ga σ 0 j := hI70.2.2
            refine lv_lstore (lv' := [(4, .long (0 : Int64)), (0, .ref (g.2.1 99)), (1, .int p1), (2, .int p2), (3, .int p3)]) hx hb dX6_mean_103 hl (by decide) rfl (fun ls hl => ?_)
            refine lv_iconst (v := 0) hx hb dX6_mean_105 (by decide) ?_
            refine lv_istore (lv' := [(6, .int (0 : Int32)), (4, .long (0 : Int64)), (0, .ref (g.2.1 99)), (1, .int p1), (2, .int p2), (3, .int p3)]) hx hb dX6_mean_106 hl (by decide) rfl (fun ls hl => ?_)
            have hL108 : ∀ (n : Nat) (x4_108 : Int64) (x6_108 : Int32) (σL108 : MS) (H : Heap) (locs : List Loc) (ls : Array Slot), (0 ≤ (ga σL108 0 (0 : Int32)).toInt ∧ (ga σL108 0 (0 : Int32)).toInt ≤ 6) → (0 ≤ (ga σL108 0 (2 : Int32)).toInt ∧ (ga σL108 0 (2 : Int32)).toInt ≤ 16) → (QR σL108) → (YOK σL108) → ((ga σL108 0 (0 : Int32)).toInt = (ga σ 0 (0 : Int32)).toInt) → ((ga σL108 0 (2 : Int32)).toInt = (ga σ 0 (2 : Int32)).toInt) → (∀ j : Int32, 0 ≤ j.toInt → j.toInt < 2500 → ga σL108 0 j = ga σ 0 j) → (∀ j : Int32, 0 ≤ j.toInt → j.toInt < 130 → ga σL108 0 ((2500 : Int32) + j) = ga σ 0 j) → (0 ≤ x6_108.toInt ∧ x6_108.toInt ≤ p3.toInt) → (p3.toInt - x6_108.toInt).toNat < n → MH g σL108 s H locs → lv_has ls 8 [(0, .ref (g.2.1 99)), (1, .int p1), (2, .int p2), (3, .int p3), (4, .long x4_108), (6, .int x6_108)] → (∀ (x4_108' : Int64) (x6_108' : Int32) (σL108' : MS) (H : Heap) (locs : List Loc) (ls : Array Slot), f_X6_mean_L108 p1 p2 p3 n x4_108 x6_108 σL108 = (x4_108', x6_108', σL108') → (0 ≤ (ga σL108' 0 (0 : Int32)).toInt ∧ (ga σL108' 0 (0 : Int32)).toInt ≤ 6) → (0 ≤ (ga σL108' 0 (2 : Int32)).toInt ∧ (ga σL108' 0 (2 : Int32)).toInt ≤ 16) → (QR σL108') → (YOK σL108') → ((ga σL108' 0 (0 : Int32)).toInt = (ga σ 0 (0 : Int32)).toInt) → ((ga σL108' 0 (2 : Int32)).toInt = (ga σ 0 (2 : Int32)).toInt) → (∀ j : Int32, 0 ≤ j.toInt → j.toInt < 2500 → ga σL108' 0 j = ga σ 0 j) → (∀ j : Int32, 0 ≤ j.toInt → j.toInt < 130 → ga σL108' 0 ((2500 : Int32) + j) = ga σ 0 j) → (0 ≤ x6_108'.toInt ∧ x6_108'.toInt ≤ p3.toInt) → MH g σL108' s H locs → lv_has ls 8 [(0, .ref (g.2.1 99)), (3, .int p3), (4, .long x4_108')] → W p l e ({ frames := 9, cells := 0, slots := 0, locals := 205 } : Room) s m args below meth c H locs 0 0 (MQ below (mQz g (f_X6_mean σ p1 p2 p3).1 (f_X6_mean σ p1 p2 p3).2 (fun u r => ((ga u 0 (0 : Int32)).toInt = (ga σ 0 (0 : Int32)).toInt) ∧ ((ga u 0 (2 : Int32)).toInt = (ga σ 0 (2 : Int32)).toInt) ∧ (∀ j : Int32, 0 ≤ j.toInt → j.toInt < 2500 → ga u 0 j = ga σ 0 j))) args s 0 0 (mA g)) (F0 m 180 ls [])) → W p l e ({ frames := 9, cells := 0, slots := 0, locals := 205 } : Room) s m args below meth c H locs 0 0 (MQ below (mQz g (f_X6_mean σ p1 p2 p3).1 (f_X6_mean σ p1 p2 p3).2 (fun u r => ((ga u 0 (0 : Int32)).toInt = (ga σ 0 (0 : Int32)).toInt) ∧ ((ga u 0 (2 : Int32)).toInt = (ga σ 0 (2 : Int32)).toInt) ∧ (∀ j : Int32, 0 ≤ j.toInt → j.toInt < 2500 → ga u 0 j = ga σ 0 j))) args s 0 0 (mA g)) (F0 m 108 ls []) := by
              intro n
              induction n with
              | zero =>
                intro x4_108 x6_108 σL108 H locs ls hp hd hQR hyk hpq hdq hE hW2 _ hm; exact absurd hm (Nat.not_lt_zero _)
              | succ n ih =>
                intro x4_108 x6_108 σL108 H locs ls hp hd hQR hyk hpq hdq hE hW2 hI108 hm h hl kk
                have hEs := hE
                refine lv_iload hx hb dX6_mean_108 (lv_at hl 5 rfl) ?_
                refine lv_iload_n hx hb dX6_mean_110 rfl (lv_at hl 3 rfl) ?_
                refine lv_icmp_ge (tgt := 180) hx hb dX6_mean_111 (by decide) (fun c111 => ?_) (fun c111 => ?_)
                · have i111 := c_le c111
                  exact kk x4_108 x6_108 σL108 _ _ _ (show f_X6_mean_L108 p1 p2 p3 (n + 1) x4_108 x6_108 σL108 = (x4_108, x6_108, σL108) from (by exact ((if_pos c111).trans rfl))) hp hd hQR hyk hpq hdq hE hW2 (by first | assumption | omega) h (lv_sub hl [0, 3, 4] rfl)
                · have i111 := c_nle c111
                  refine lv_aload_n hx hb dX6_mean_114 rfl (lv_at hl 0 rfl) ?_
                  refine lv_iload_n hx hb dX6_mean_115 rfl (lv_at hl 2 rfl) ?_
                  refine lv_iload hx hb dX6_mean_116 (lv_at hl 5 rfl) ?_
                  refine lv_iadd hx hb dX6_mean_118 ?_
                  have ta119_0 : (p2 + x6_108).toInt = (p2.toInt + x6_108.toInt) := (i_add (rfl : p2.toInt = p2.toInt) (rfl : x6_108.toInt = x6_108.toInt) (by omega))
                  refine M_callv (As := [.int (p2 + x6_108)]) (rest := []) 1 C h (k_X6_lives l g σL108 (p2 + x6_108) (by first | assumption | omega) (by first | assumption | omega) (by first | assumption | omega) (by first | assumption | omega) (by first | assumption | omega)) (lw_V q2211 q2213 qs134 q152 q2214) rfl rfl (by decide +kernel) ⟨Nat.le_of_ble_eq_true rfl, Nat.le_of_ble_eq_true rfl⟩ rfl hl.1 rfl (Nat.le_of_ble_eq_true rfl) ⟨Nat.le_of_ble_eq_true rfl, Nat.le_of_ble_eq_true rfl⟩ dX6_mean_119 (fun σ119 H locs eσ119 hE119 h => ?_)
                  have hE119 : ((ga σ119 0 (0 : Int32)).toInt = (ga σL108 0 (0 : Int32)).toInt) ∧ ((ga σ119 0 (2 : Int32)).toInt = (ga σL108 0 (2 : Int32)).toInt) ∧ (∀ j : Int32, 130 ≤ j.toInt → ga σ119 0 j = ga σL108 0 j) ∧ ((ga σ119 0 (9 : Int32)).toInt = (ga σL108 0 (9 : Int32)).toInt) ∧ (∀ x : Int32, (0 ≤ x.toInt ∧ x.toInt ≤ 5) → ga σ119 0 ((f_X6_personRow x) + (1 : Int32)) = ga σL108 0 ((f_X6_personRow x) + (1 : Int32))) ∧ (MFr σL108 σ119) := hE119
                  obtain ⟨hpq_119, hdq_119, hY_119, hsq_119, hQq_119, hLF_119⟩ := hE119
                  have hNEW : (0 ≤ (ga σ119 0 (0 : Int32)).toInt ∧ (ga σ119 0 (0 : Int32)).toInt ≤ 6) ∧ (0 ≤ (ga σ119 0 (2 : Int32)).toInt ∧ (ga σ119 0 (2 : Int32)).toInt ≤ 16) ∧ (QR σ119) ∧ (YOK σ119) ∧ ((ga σ119 0 (0 : Int32)).toInt = (ga σ 0 (0 : Int32)).toInt) ∧ ((ga σ119 0 (2 : Int32)).toInt = (ga σ 0 (2 : Int32)).toInt) ∧ (∀ j : Int32, 0 ≤ j.toInt → j.toInt < 130 → ga σ119 0 ((2500 : Int32) + j) = ga σ 0 j) := ⟨(by first | assumption | omega), (by first | assumption | omega), (fun x hx => by rw [hQq_119 x hx]; exact hQR x hx), (YOK_hY hY_119 hsq_119 hyk), (by first | assumption | omega), (by first | assumption | omega), (fun j h0 h1 => by rw [hY_119 _ (by rw [i_add (show (2500 : Int32).toInt = 2500 from rfl) rfl (by omega)]; omega)]; exact hW2 j h0 h1)⟩
                  obtain ⟨hp, hd, hQR, hyk, hpq, hdq, hW2⟩ := hNEW
                  refine lv_lload hx hb dX6_mean_122 (lv_at hl 4 rfl) ?_
                  refine lv_aload_n hx hb dX6_mean_124 rfl (lv_at hl 0 rfl) ?_
                  refine Mg_0 C h dX6_mean_125 ?_
                  refine lv_iload_n hx hb dX6_mean_128 rfl (lv_at hl 1 rfl) ?_
                  refine s_calli (As := [.int p1]) (rest := [.ref (g.2.1 0), .long x4_108]) 1 C.1 (k_X6_personRow l p1) (lw_S q1857 q1858 q152 q1859) rfl rfl (by decide +kernel) ⟨Nat.le_of_ble_eq_true rfl, Nat.le_of_ble_eq_true rfl⟩ rfl hl.1 rfl (Nat.le_of_ble_eq_true rfl) ⟨Nat.le_of_ble_eq_true rfl, Nat.le_of_ble_eq_true rfl⟩ dX6_mean_129 h.2.2 (fun r129 H locs er129 hz1 hk1 hS1 => ?_)
                  have h := h.same hk1 hS1
                  clear hz1 hk1 hS1
                  have tr129 : r129.toInt = ((12) + ((8) * p1.toInt)) := by rw [er129]; exact (i_add zl12 (i_mul zl8 (rfl : p1.toInt = p1.toInt) (by omega)) (by omega))
                  refine lv_iconst (v := 5) hx hb dX6_mean_132 (by decide) ?_
                  refine lv_iadd hx hb dX6_mean_133 ?_
                  refine Ml_0 C h (ix_of (i_add tr129 zl5 (by omega)) (by omega)) dX6_mean_134 ?_
                  refine lv_i2l (v := (ga σ119 0 (r129 + (5 : Int32))).toInt64) hx hb dX6_mean_135 rfl ?_
                  refine lv_ladd hx hb dX6_mean_136 ?_
                  refine lv_topl (fun v137 ev137 => ?_)
                  refine lv_lstore (lv' := [(4, .long v137), (0, .ref (g.2.1 99)), (1, .int p1), (2, .int p2), (3, .int p3), (6, .int x6_108)]) hx hb dX6_mean_137 hl (by decide) rfl (fun ls hl => ?_)
                  refine lv_iconst (v := 0) hx hb dX6_mean_139 (by decide) ?_
                  refine lv_istore (lv' := [(7, .int (0 : Int32)), (4, .long v137), (0, .ref (g.2.1 99)), (1, .int p1), (2, .int p2), (3, .int p3), (6, .int x6_108)]) hx hb dX6_mean_140 hl (by decide) rfl (fun ls hl => ?_)
                  have hL142 : ∀ (n : Nat) (x7_142 : Int32) (σL142 : MS) (H : Heap) (locs : List Loc) (ls : Array Slot), (∀ j : Int32, 0 ≤ j.toInt → j.toInt < 130 → ga σL142 0 ((2500 : Int32) + j) = ga σ 0 j) → (0 ≤ x7_142.toInt ∧ x7_142.toInt ≤ 130 ∧ (∀ j : Int32, 0 ≤ j.toInt → (j.toInt < x7_142.toInt ∨ 130 ≤ j.toInt) → j.toInt < 2500 → ga σL142 0 j = ga σ 0 j)) → (130 - x7_142.toInt).toNat < n → MH g σL142 s H locs → lv_has ls 8 [(0, .ref (g.2.1 99)), (1, .int p1), (2, .int p2), (3, .int p3), (4, .long v137), (6, .int x6_108), (7, .int x7_142)] → (∀ (x7_142' : Int32) (σL142' : MS) (H : Heap) (locs : List Loc) (ls : Array Slot), f_X6_mean_L142 p1 p2 p3 v137 x6_108 n x7_142 σL142 = (x7_142', σL142') → (∀ j : Int32, 0 ≤ j.toInt → j.toInt < 130 → ga σL142' 0 ((2500 : Int32) + j) = ga σ 0 j) → (∀ j : Int32, 0 ≤ j.toInt → j.toInt < 2500 → ga σL142' 0 j = ga σ 0 j) → MH g σL142' s H locs → lv_has ls 8 [(0, .ref (g.2.1 99)), (1, .int p1), (2, .int p2), (3, .int p3), (4, .long v137), (6, .int x6_108)] → W p l e ({ frames := 9, cells := 0, slots := 0, locals := 205 } : Room) s m args below meth c H locs 0 0 (MQ below (mQz g (f_X6_mean σ p1 p2 p3).1 (f_X6_mean σ p1 p2 p3).2 (fun u r => ((ga u 0 (0 : Int32)).toInt = (ga σ 0 (0 : Int32)).toInt) ∧ ((ga u 0 (2 : Int32)).toInt = (ga σ 0 (2 : Int32)).toInt) ∧ (∀ j : Int32, 0 ≤ j.toInt → j.toInt < 2500 → ga u 0 j = ga σ 0 j))) args s 0 0 (mA g)) (F0 m 174 ls [])) → W p l e ({ frames := 9, cells := 0, slots := 0, locals := 205 } : Room) s m args below meth c H locs 0 0 (MQ below (mQz g (f_X6_mean σ p1 p2 p3).1 (f_X6_mean σ p1 p2 p3).2 (fun u r => ((ga u 0 (0 : Int32)).toInt = (ga σ 0 (0 : Int32)).toInt) ∧ ((ga u 0 (2 : Int32)).toInt = (ga σ 0 (2 : Int32)).toInt) ∧ (∀ j : Int32, 0 ≤ j.toInt → j.toInt < 2500 → ga u 0 j = ga σ 0 j))) args s 0 0 (mA g)) (F0 m 142 ls []) := by
                    intro n
                    induction n with
                    | zero =>
                      intro x7_142 σL142 H locs ls hW2 _ hm; exact absurd hm (Nat.not_lt_zero _)
                    | succ n ih =>
                      intro x7_142 σL142 H locs ls hW2 hI142 hm h hl kk
                      have hW2k := hW2
                      refine lv_iload hx hb dX6_mean_142 (lv_at hl 6 rfl) ?_
                      refine lv_sipush (v := 130) hx hb dX6_mean_144 (by decide) ?_
                      refine lv_icmp_ge (tgt := 174) hx hb dX6_mean_147 (by decide) (fun c147 => ?_) (fun c147 => ?_)
                      · have i147 := c_le c147
                        exact kk x7_142 σL142 _ _ _ (show f_X6_mean_L142 p1 p2 p3 v137 x6_108 (n + 1) x7_142 σL142 = (x7_142, σL142) from (by exact ((if_pos c147).trans rfl))) hW2 (fun j h0 h1 => hI142.2.2 j h0 (by omega) h1) h (lv_sub hl [0, 1, 2, 3, 4, 5] rfl)
                      · have i147 := c_nle c147
                        refine lv_aload_n hx hb dX6_mean_150 rfl (lv_at hl 0 rfl) ?_
                        refine Mg_0 C h dX6_mean_151 ?_
                        refine lv_iload hx hb dX6_mean_154 (lv_at hl 6 rfl) ?_
                        refine lv_aload_n hx hb dX6_mean_156 rfl (lv_at hl 0 rfl) ?_
                        refine Mg_0 C h dX6_mean_157 ?_
                        refine lv_sipush (v := 2500) hx hb dX6_mean_160 (by decide) ?_
                        refine lv_iload hx hb dX6_mean_163 (lv_at hl 6 rfl) ?_
                        refine lv_iadd hx hb dX6_mean_165 ?_
                        refine Ml_0 C h (ix_of (i_add zl2500 (rfl : x7_142.toInt = x7_142.toInt) (by omega)) (by omega)) dX6_mean_166 ?_
                        refine Ms_0 C h (ix_of (rfl : x7_142.toInt = x7_142.toInt) (by omega)) dX6_mean_167 (fun σ167 H locs eσ167 h => ?_)
                        have hW2 : ∀ j : Int32, 0 ≤ j.toInt → j.toInt < 130 → ga σ167 0 ((2500 : Int32) + j) = ga σ 0 j := by rw [eσ167]; exact (fun j h0 h1 => (ga_sa_ne (rfl : x7_142.toInt = x7_142.toInt) (i_add (show (2500 : Int32).toInt = 2500 from rfl) rfl (by omega)) (by omega)).trans (hW2 j h0 h1))
                        refine lv_iinc (v := (x7_142 + (1 : Int32))) (lv' := [(7, .int (x7_142 + (1 : Int32))), (0, .ref (g.2.1 99)), (1, .int p1), (2, .int p2), (3, .int p3), (4, .long v137), (6, .int x6_108)]) hx hb dX6_mean_168 hl (k := 6) rfl rfl (by decide) rfl (fun ls hl => ?_)
                        refine lv_goto (tgt := 142) hx hb dX6_mean_171 (by decide) ?_
                        have tt7 : (x7_142 + (1 : Int32)).toInt = (x7_142.toInt + (1)) := (i_add (rfl : x7_142.toInt = x7_142.toInt) zl1 (by omega))
                        exact ih (x7_142 + (1 : Int32)) σ167 _ _ _ hW2 ⟨by omega, by omega, fun j h0 h1 h2 => by rw [eσ167]; exact ga_res (k := x7_142) (by omega) h0 (hW2k x7_142 (by omega) (by omega)) ((show j.toInt = x7_142.toInt ∨ (j.toInt < x7_142.toInt ∨ 130 ≤ j.toInt) by omega).elim Or.inr (fun z => Or.inl (hI142.2.2 j h0 z h2)))⟩ (by omega) h (lv_sub hl [1, 2, 3, 4, 5, 6, 0] rfl) (fun x7_142' σL142' H locs ls en hW2 hI h hl => kk x7_142' σL142' H locs ls ((show f_X6_mean_L142 p1 p2 p3 v137 x6_108 (n + 1) x7_142 σL142 = f_X6_mean_L142 p1 p2 p3 v137 x6_108 n (x7_142 + (1 : Int32)) σ167 from (by have eσ167 := eσ167.symm; subst eσ167; exact ((if_neg c147).trans rfl))).trans en) hW2 hI h hl)
                  refine hL142 (131) (0 : Int32) σ119 _ _ _ hW2 ⟨by omega, by omega, fun j h0 h1 h2 => (hY_119 j (by omega)).trans (hEs j h0 h2)⟩ (by omega) h (lv_sub hl [2, 3, 4, 5, 1, 6, 0] rfl) (fun x7_142e σL142e H locs ls eL142 hW2 hI142 h hl => ?_)
                  have ex7_142e : x7_142e = (f_X6_mean_L142 p1 p2 p3 v137 x6_108 (131) (0 : Int32) σ119).1 := by rw [eL142]
                  have eσL142e : σL142e = (f_X6_mean_L142 p1 p2 p3 v137 x6_108 (131) (0 : Int32) σ119).2 := by rw [eL142]
                  refine lv_iinc (v := (x6_108 + (1 : Int32))) (lv' := [(6, .int (x6_108 + (1 : Int32))), (0, .ref (g.2.1 99)), (1, .int p1), (2, .int p2), (3, .int p3), (4, .long v137)]) hx hb dX6_mean_174 hl (k := 5) rfl rfl (by decide) rfl (fun ls hl => ?_)
                  have hE : ∀ j : Int32, 0 ≤ j.toInt → j.toInt < 2500 → ga σL142e 0 j = ga σ 0 j := hI142
                  have hp : 0 ≤ (ga σL142e 0 (0 : Int32)).toInt ∧ (ga σL142e 0 (0 : Int32)).toInt ≤ 6 := (by rw [hI142 0 (by decide) (by decide)]; exact hp0)
                  have hpq : (ga σL142e 0 (0 : Int32)).toInt = (ga σ 0 (0 : Int32)).toInt := (by rw [hI142 0 (by decide) (by decide)])
                  have hd : 0 ≤ (ga σL142e 0 (2 : Int32)).toInt ∧ (ga σL142e 0 (2 : Int32)).toInt ≤ 16 := (by rw [hI142 2 (by decide) (by decide)]; exact hd0)
                  have hdq : (ga σL142e 0 (2 : Int32)).toInt = (ga σ 0 (2 : Int32)).toInt := (by rw [hI142 2 (by decide) (by decide)])
                  have hQR : QR σL142e := (QR_E hI142 hQR0)
                  have hyk : YOK σL142e := (YOK_E hI142 hyk0)
                  refine lv_goto (tgt := 108) hx hb dX6_mean_177 (by decide) ?_
                  have tt6 : (x6_108 + (1 : Int32)).toInt = (x6_108.toInt + (1)) := (i_add (rfl : x6_108.toInt = x6_108.toInt) zl1 (by omega))
                  exact ih v137 (x6_108 + (1 : Int32)) σL142e _ _ _ hp hd hQR hyk hpq hdq hE hW2 (by first | assumption | omega) (by omega) h (lv_sub hl [1, 2, 3, 4, 5, 0] rfl) (fun x4_108' x6_108' σL108' H locs ls en hp hd hQR hyk hpq hdq hE hW2 hI h hl => kk x4_108' x6_108' σL108' H locs ls ((show f_X6_mean_L108 p1 p2 p3 (n + 1) x4_108 x6_108 σL108 = f_X6_mean_L108 p1 p2 p3 n v137 (x6_108 + (1 : Int32)) σL142e from (by have eσ119 := eσ119.symm; subst eσ119; have er129 := er129.symm; subst er129; have ev137 := ev137.symm; subst ev137; have ex7_142e := ex7_142e.symm; subst ex7_142e; have eσL142e := eσL142e.symm; subst eσL142e; exact ((if_neg c111).trans rfl))).trans en) hp hd hQR hyk hpq hdq hE hW2 hI h hl)
            refine hL108 (21) (0 : Int64) (0 : Int32) σL70e _ _ _ hp hd hQR hyk hpq hdq hE hW2 (by first | assumption | omega) (by omega) h (lv_sub hl [2, 3, 4, 5, 1, 0] rfl) (fun x4_108e x6_108e σL108e H locs ls eL108 hp hd hQR hyk hpq hdq hE hW2 hI108 h hl => ?_)
            have ex4_108e : x4_108e = (f_X6_mean_L108 p1 p2 p3 (21) (0 : Int64) (0 : Int32) σL70e).1 := by rw [eL108]
            have ex6_108e : x6_108e = (f_X6_mean_L108 p1 p2 p3 (21) (0 : Int64) (0 : Int32) σL70e).2.1 := by rw [eL108]
            have eσL108e : σL108e = (f_X6_mean_L108 p1 p2 p3 (21) (0 : Int64) (0 : Int32) σL70e).2.2 := by rw [eL108]
            refine lv_aload_n hx hb dX6_mean_180 rfl (lv_at hl 0 rfl) ?_
            refine lv_lload hx hb dX6_mean_181 (lv_at hl 2 rfl) ?_
            refine lv_iload_n hx hb dX6_mean_183 rfl (lv_at hl 1 rfl) ?_
            refine lv_i2l (v := p3.toInt64) hx hb dX6_mean_184 rfl ?_
            refine M_callz (As := [.long x4_108e, .long p3.toInt64]) (rest := []) 2 C h (k_X6_tellsBy l g σL108e x4_108e p3.toInt64 (i2l_ne (ne_pos kk26.1))) (lw_V q2018 q2020 qs118 q152 q2021) rfl rfl (by decide +kernel) ⟨Nat.le_of_ble_eq_true rfl, Nat.le_of_ble_eq_true rfl⟩ rfl hl.1 rfl (Nat.le_of_ble_eq_true rfl) ⟨Nat.le_of_ble_eq_true rfl, Nat.le_of_ble_eq_true rfl⟩ dX6_mean_185 (fun r185 σ185 H locs eσ185 er185 br185 hE185 h => ?_)
            clear hE185
            have hNEW : (0 ≤ (ga σ185 0 (0 : Int32)).toInt ∧ (ga σ185 0 (0 : Int32)).toInt ≤ 6) ∧ (0 ≤ (ga σ185 0 (2 : Int32)).toInt ∧ (ga σ185 0 (2 : Int32)).toInt ≤ 16) ∧ ((ga σ185 0 (0 : Int32)).toInt = (ga σ 0 (0 : Int32)).toInt) ∧ ((ga σ185 0 (2 : Int32)).toInt = (ga σ 0 (2 : Int32)).toInt) ∧ (∀ j : Int32, 0 ≤ j.toInt → j.toInt < 2500 → ga σ185 0 j = ga σ 0 j) := ⟨(by rw [eσ185, tellsBy_ga] <;> exact hp), (by rw [eσ185, tellsBy_ga] <;> exact hd), (by rw [eσ185, tellsBy_ga] <;> exact hpq), (by rw [eσ185, tellsBy_ga] <;> exact hdq), (fun j h0 h1 => by rw [eσ185, tellsBy_ga]; exact hE j h0 h1)⟩
            obtain ⟨hp, hd, hpq, hdq, hE⟩ := hNEW
            have he : f_X6_mean σ p1 p2 p3 = (σ185, r185) := (by have er2 := er2.symm; subst er2; have er14 := er14.symm; subst er14; have er26 := er26.symm; subst er26; have ex4_70e := ex4_70e.symm; subst ex4_70e; have eσL70e := eσL70e.symm; subst eσL70e; have ex4_108e := ex4_108e.symm; subst ex4_108e; have ex6_108e := ex6_108e.symm; subst ex6_108e; have eσL108e := eσL108e.symm; subst eσL108e; have eσ185 := eσ185.symm; subst eσ185; have er185 := er185.symm; subst er185; exact ((if_neg c5).trans ((if_neg c17).trans ((if_neg c29).trans ((if_pos c40).trans ((if_neg c57).trans rfl))))))
            exact M_retz C h hr hlocks (congrArg Prod.fst he) (congrArg Prod.snd he) br185 ⟨hpq, hdq, hE⟩ dX6_mean_188
          · have i57 := c_eq c57
            refine lv_aload_n hx hb dX6_mean_60 rfl (lv_at hl 0 rfl) ?_
            refine lv_bipush (v := 6) hx hb dX6_mean_61 (by decide) ?_
            refine M_callz (As := [.int (6 : Int32)]) (rest := []) 1 C h (k_X6_is l g σ (6 : Int32)) (lw_V q1663 q1665 qs65 q152 q1666) rfl rfl (by decide +kernel) ⟨Nat.le_of_ble_eq_true rfl, Nat.le_of_ble_eq_true rfl⟩ rfl hl.1 rfl (Nat.le_of_ble_eq_true rfl) ⟨Nat.le_of_ble_eq_true rfl, Nat.le_of_ble_eq_true rfl⟩ dX6_mean_63 (fun r63 σ63 H locs eσ63 er63 br63 hE63 h => ?_)
            clear hE63
            have hNEW : (0 ≤ (ga σ63 0 (0 : Int32)).toInt ∧ (ga σ63 0 (0 : Int32)).toInt ≤ 6) ∧ (0 ≤ (ga σ63 0 (2 : Int32)).toInt ∧ (ga σ63 0 (2 : Int32)).toInt ≤ 16) ∧ (QR σ63) ∧ (YOK σ63) ∧ ((ga σ63 0 (0 : Int32)).toInt = (ga σ 0 (0 : Int32)).toInt) ∧ ((ga σ63 0 (2 : Int32)).toInt = (ga σ 0 (2 : Int32)).toInt) ∧ (∀ j : Int32, 0 ≤ j.toInt → j.toInt < 2500 → ga σ63 0 j = ga σ 0 j) := ⟨(by rw [eσ63, is_s] <;> exact hp), (by rw [eσ63, is_s] <;> exact hd), (by rw [eσ63, is_s] <;> exact hQR), (by rw [eσ63, is_s] <;> exact hyk), (by rw [eσ63, is_s] <;> exact hpq), (by rw [eσ63, is_s] <;> exact hdq), (fun j h0 h1 => by rw [eσ63, is_s]; exact hE j h0 h1)⟩
            obtain ⟨hp, hd, hQR, hyk, hpq, hdq, hE⟩ := hNEW
            have he : f_X6_mean σ p1 p2 p3 = (σ63, r63) := (by have er2 := er2.symm; subst er2; have er14 := er14.symm; subst er14; have er26 := er26.symm; subst er26; have eσ63 := eσ63.symm; subst eσ63; have er63 := er63.symm; subst er63; exact ((if_neg c5).trans ((if_neg c17).trans ((if_neg c29).trans ((if_pos c40).trans ((if_pos c57).trans rfl))))))
            exact M_retz C h hr hlocks (congrArg Prod.fst he) (congrArg Prod.snd he) br63 ⟨hpq, hdq, hE⟩ dX6_mean_66
        · have i40 := c_nle c40
          refine lv_aload_n hx hb dX6_mean_43 rfl (lv_at hl 0 rfl) ?_
          refine lv_iconst (v := 1) hx hb dX6_mean_44 (by decide) ?_
          refine M_callz (As := [.int (1 : Int32)]) (rest := []) 1 C h (k_X6_is l g σ (1 : Int32)) (lw_V q1663 q1665 qs65 q152 q1666) rfl rfl (by decide +kernel) ⟨Nat.le_of_ble_eq_true rfl, Nat.le_of_ble_eq_true rfl⟩ rfl hl.1 rfl (Nat.le_of_ble_eq_true rfl) ⟨Nat.le_of_ble_eq_true rfl, Nat.le_of_ble_eq_true rfl⟩ dX6_mean_45 (fun r45 σ45 H locs eσ45 er45 br45 hE45 h => ?_)
          clear hE45
          have hNEW : (0 ≤ (ga σ45 0 (0 : Int32)).toInt ∧ (ga σ45 0 (0 : Int32)).toInt ≤ 6) ∧ (0 ≤ (ga σ45 0 (2 : Int32)).toInt ∧ (ga σ45 0 (2 : Int32)).toInt ≤ 16) ∧ (QR σ45) ∧ (YOK σ45) ∧ ((ga σ45 0 (0 : Int32)).toInt = (ga σ 0 (0 : Int32)).toInt) ∧ ((ga σ45 0 (2 : Int32)).toInt = (ga σ 0 (2 : Int32)).toInt) ∧ (∀ j : Int32, 0 ≤ j.toInt → j.toInt < 2500 → ga σ45 0 j = ga σ 0 j) := ⟨(by rw [eσ45, is_s] <;> exact hp), (by rw [eσ45, is_s] <;> exact hd), (by rw [eσ45, is_s] <;> exact hQR), (by rw [eσ45, is_s] <;> exact hyk), (by rw [eσ45, is_s] <;> exact hpq), (by rw [eσ45, is_s] <;> exact hdq), (fun j h0 h1 => by rw [eσ45, is_s]; exact hE j h0 h1)⟩
          obtain ⟨hp, hd, hQR, hyk, hpq, hdq, hE⟩ := hNEW
          have he : f_X6_mean σ p1 p2 p3 = (σ45, r45) := (by have er2 := er2.symm; subst er2; have er14 := er14.symm; subst er14; have er26 := er26.symm; subst er26; have eσ45 := eσ45.symm; subst eσ45; have er45 := er45.symm; subst er45; exact ((if_neg c5).trans ((if_neg c17).trans ((if_neg c29).trans ((if_neg c40).trans rfl)))))
          exact M_retz C h hr hlocks (congrArg Prod.fst he) (congrArg Prod.snd he) br45 ⟨hpq, hdq, hE⟩ dX6_mean_48
