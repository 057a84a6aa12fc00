/-! THE TABLE's methods against the reference's, by pictures -/
set_option maxRecDepth 100000
theorem at_ne {σ : MS} {i v j : Int32} (h : ¬ i.toInt = j.toInt) (hi : 0 ≤ i.toInt) (hj : 0 ≤ j.toInt) : ga (sa σ 0 i v) 0 j = ga σ 0 j := ga_sa_ne rfl rfl (by omega)
theorem at_k {τ : MS} {k k' : Nat} {i v j : Int32} (h : k' ≠ k) : ga (sa τ k i v) k' j = ga τ k' j := ga_sa_k h
theorem ar_ne {τ : MS} {k : Nat} {i v j : Int32} (h : ¬ i.toInt = j.toInt) (hi : 0 ≤ i.toInt) (hj : 0 ≤ j.toInt) : ga (sa τ k i v) k j = ga τ k j := ga_sa_ne rfl rfl (by omega)
theorem gu_L {τ τ' : MS} (h1 : gi τ' 1 = gi τ 1) (h2 : ∀ x, ga τ' 26 x = ga τ 26 x) : ∀ (n : Nat) (a b : Int32), f_X5_guests_L4 τ' n a b = f_X5_guests_L4 τ n a b
  | 0, a, b => rfl
  | n + 1, a, b => by simp only [f_X5_guests_L4, h1, h2, gu_L h1 h2 n]
theorem gu_same {τ τ' : MS} (h1 : gi τ' 1 = gi τ 1) (h2 : ∀ x, ga τ' 26 x = ga τ 26 x) : f_X5_guests τ' = f_X5_guests τ := by
  unfold f_X5_guests
  rw [gu_L h1 h2]
theorem po_i {p k : Int32} {K : Int} (h : 0 ≤ p.toInt ∧ p.toInt ≤ 5) (hk : k.toInt = K) (hK : 0 ≤ K ∧ K ≤ 7) : (f_X6_personRow p + k).toInt = 12 + 8 * p.toInt + K := i_add (pr_i h) hk (by omega)
theorem di_i {d : Int32} (h : 0 ≤ d.toInt ∧ d.toInt ≤ 16) : (60 + 2 * d).toInt = 60 + 2 * d.toInt := i_add z_60 (i_mul z_2 rfl (by omega)) (by omega)
theorem dj_i {d : Int32} (h : 0 ≤ d.toInt ∧ d.toInt ≤ 16) : ((60 + 2 * d) + 1).toInt = 60 + 2 * d.toInt + 1 := i_add (di_i h) z_1 (by omega)
theorem z_3 : (3 : Int32).toInt = 3 := rfl
theorem z_4 : (4 : Int32).toInt = 4 := rfl
theorem z_5 : (5 : Int32).toInt = 5 := rfl
theorem z_7 : (7 : Int32).toInt = 7 := rfl
section RT2
variable {τ σ : MS}
/-- the reference's slot, changed at a place behind the first row of numbers -/
theorem RT_hi {τ' : MS} {i v : Int32} {X : Int} (h : RT τ σ) (hS : SL σ 0) (hi : i.toInt = X) (hX : 12 ≤ X) (hg : ∀ k, k ≤ 8 → gi τ' k = gi τ k) (h26 : ∀ x, ga τ' 26 x = ga τ 26 x)
    (hp : ∀ p : Int32, (0 ≤ p.toInt ∧ p.toInt < (ga σ 0 0).toInt) → ga τ' 21 p = ga (sa σ 0 i v) 0 (f_X6_personRow p) ∧ ga τ' 22 p = ga (sa σ 0 i v) 0 (f_X6_personRow p + 1) ∧ ga τ' 23 p = ga (sa σ 0 i v) 0 (f_X6_personRow p + 2) ∧ ga τ' 24 p = ga (sa σ 0 i v) 0 (f_X6_personRow p + 3) ∧ ga τ' 25 p = ga (sa σ 0 i v) 0 (f_X6_personRow p + 4) ∧ ga τ' 11 p = ga (sa σ 0 i v) 0 (f_X6_personRow p + 5) ∧ ga τ' 13 p = ga (sa σ 0 i v) 0 (f_X6_personRow p + 6) - ga (sa σ 0 i v) 0 (f_X6_personRow p + 7))
    (hd : ∀ d : Int32, (0 ≤ d.toInt ∧ d.toInt < (ga σ 0 2).toInt) → ga τ' 9 d = ga (sa σ 0 i v) 0 (60 + 2 * d) ∧ ga τ' 10 d = ga (sa σ 0 i v) 0 ((60 + 2 * d) + 1))
    (ho : ∀ a b : Int32, (0 ≤ a.toInt ∧ a.toInt ≤ 5) → (0 ≤ b.toInt ∧ b.toInt ≤ 5) → ga τ' 12 (6 * a + b) = ga (sa σ 0 i v) 0 (f_X6_debtRow a b)) : RT τ' (sa σ 0 i v) := by
  have e : ∀ j : Int32, 0 ≤ j.toInt → j.toInt ≤ 8 → ga (sa σ 0 i v) 0 j = ga σ 0 j := fun j h0 h1 => at_ne (by omega) (by omega) h0
  refine ⟨⟨?_, ?_, ?_, ?_, ?_, ?_, ?_, ?_, ?_⟩, ?_, ?_, ho⟩
  · rw [hg 1 (by omega), e 0 (by rw [z_0]; omega) (by rw [z_0]; omega)]; exact h.1.1
  · rw [hg 2 (by omega), e 1 (by rw [z_1]; omega) (by rw [z_1]; omega)]; exact h.1.2.1
  · rw [hg 3 (by omega), e 2 (by rw [z_2]; omega) (by rw [z_2]; omega)]; exact h.1.2.2.1
  · rw [hg 4 (by omega), e 3 (by rw [z_3]; omega) (by rw [z_3]; omega)]; exact h.1.2.2.2.1
  · rw [hg 5 (by omega), e 4 (by rw [z_4]; omega) (by rw [z_4]; omega)]; exact h.1.2.2.2.2.1
  · rw [hg 6 (by omega), e 5 (by rw [z_5]; omega) (by rw [z_5]; omega)]; exact h.1.2.2.2.2.2.1
  · rw [hg 7 (by omega), e 6 (by rw [z_6]; omega) (by rw [z_6]; omega)]; exact h.1.2.2.2.2.2.2.1
  · rw [hg 8 (by omega), e 8 (by rw [z_8]; omega) (by rw [z_8]; omega)]; exact h.1.2.2.2.2.2.2.2.1
  · rw [gu_same (hg 1 (by omega)) h26, e 7 (by rw [z_7]; omega) (by rw [z_7]; omega)]; exact h.g
  · rw [e 0 (by rw [z_0]; omega) (by rw [z_0]; omega)]; exact hp
  · rw [e 2 (by rw [z_2]; omega) (by rw [z_2]; omega)]; exact hd
/-- a person's row stays -/
theorem RP_keep {τ' : MS} {i v p : Int32} (h : RT τ σ) (hS : SL σ 0) (hp : 0 ≤ p.toInt ∧ p.toInt < (ga σ 0 0).toInt) (hi : 0 ≤ i.toInt) (hn : i.toInt < 12 + 8 * p.toInt ∨ 12 + 8 * p.toInt + 8 ≤ i.toInt) (e1 : ga τ' 21 p = ga τ 21 p) (e2 : ga τ' 22 p = ga τ 22 p) (e3 : ga τ' 23 p = ga τ 23 p) (e4 : ga τ' 24 p = ga τ 24 p) (e5 : ga τ' 25 p = ga τ 25 p) (e6 : ga τ' 11 p = ga τ 11 p) (e7 : ga τ' 13 p = ga τ 13 p) :
    ga τ' 21 p = ga (sa σ 0 i v) 0 (f_X6_personRow p) ∧ ga τ' 22 p = ga (sa σ 0 i v) 0 (f_X6_personRow p + 1) ∧ ga τ' 23 p = ga (sa σ 0 i v) 0 (f_X6_personRow p + 2) ∧ ga τ' 24 p = ga (sa σ 0 i v) 0 (f_X6_personRow p + 3) ∧ ga τ' 25 p = ga (sa σ 0 i v) 0 (f_X6_personRow p + 4) ∧ ga τ' 11 p = ga (sa σ 0 i v) 0 (f_X6_personRow p + 5) ∧ ga τ' 13 p = ga (sa σ 0 i v) 0 (f_X6_personRow p + 6) - ga (sa σ 0 i v) 0 (f_X6_personRow p + 7) := by
  have hP := SL_p hS
  have q := h.2.1 p hp
  have e0 := pr_i (p := p) (by omega)
  have k1 := po_i (p := p) (by omega) z_1 (by omega)
  have k2 := po_i (p := p) (by omega) z_2 (by omega)
  have k3 := po_i (p := p) (by omega) z_3 (by omega)
  have k4 := po_i (p := p) (by omega) z_4 (by omega)
  have k5 := po_i (p := p) (by omega) z_5 (by omega)
  have k6 := po_i (p := p) (by omega) z_6 (by omega)
  have k7 := po_i (p := p) (by omega) z_7 (by omega)
  rw [e1, e2, e3, e4, e5, e6, e7, at_ne (by omega) hi (by omega), at_ne (by omega) hi (by omega), at_ne (by omega) hi (by omega), at_ne (by omega) hi (by omega), at_ne (by omega) hi (by omega), at_ne (by omega) hi (by omega), at_ne (by omega) hi (by omega), at_ne (by omega) hi (by omega)]
  exact q
/-- a debt is laid -/
theorem RT_owe {a b v : Int32} (h : RT τ σ) (hS : SL σ 0) (ha : 0 ≤ a.toInt ∧ a.toInt ≤ 5) (hb : 0 ≤ b.toInt ∧ b.toInt ≤ 5) : RT (f_X5_owe τ a b v) (sa σ 0 (f_X6_debtRow a b) v) := by
  have hP := SL_p hS
  have hD := SL_d hS
  have ei := dr_i ha hb
  refine RT_hi (τ' := f_X5_owe τ a b v) h hS ei (by omega) (fun _ _ => rfl) (fun x => ga_sa_k (by decide)) (fun p hp => ?_) (fun d hd => ?_) (fun c d hc hd => ?_)
  · exact RP_keep h hS hp (by omega) (by omega) (ga_sa_k (by decide)) (ga_sa_k (by decide)) (ga_sa_k (by decide)) (ga_sa_k (by decide)) (ga_sa_k (by decide)) (ga_sa_k (by decide)) (ga_sa_k (by decide))
  · have q := h.2.2.1 d hd
    have e1 := di_i (d := d) (by omega)
    have e2 := dj_i (d := d) (by omega)
    rw [at_ne (by omega) (by omega) (by omega), at_ne (by omega) (by omega) (by omega)]
    exact ⟨(ga_sa_k (by decide)).trans q.1, (ga_sa_k (by decide)).trans q.2⟩
  · have ej := dr_i hc hd
    have o1 := ow_i ha hb
    have o2 := ow_i hc hd
    show ga (sa τ 12 (6 * a + b) v) 12 (6 * c + d) = _
    by_cases z : a.toInt = c.toInt ∧ b.toInt = d.toInt
    · have z1 : a = c := Int32.toInt_inj.mp z.1
      have z2 : b = d := Int32.toInt_inj.mp z.2
      subst z1; subst z2
      rw [ga_sa_eq, ga_sa_eq]
    · rw [ar_ne (by omega) (by omega) (by omega), at_ne (by omega) (by omega) (by omega)]
      exact h.2.2.2 c d hc hd
/-- one who paid -/
theorem RT_paid {p v w : Int32} (h : RT τ σ) (hS : SL σ 0) (hp : 0 ≤ p.toInt ∧ p.toInt < (ga σ 0 0).toInt) (hv : v = w) : RT (sa τ 11 p v) (sa σ 0 (f_X6_personRow p + 5) w) := by
  subst hv
  have hP := SL_p hS
  have hD := SL_d hS
  have ei := po_i (p := p) (by omega) z_5 (by omega)
  refine RT_hi (τ' := sa τ 11 p v) h hS ei (by omega) (fun _ _ => rfl) (fun x => ga_sa_k (by decide)) (fun r hr => ?_) (fun d hd => ?_) (fun c d hc hd => ?_)
  · by_cases z : r.toInt = p.toInt
    · have z1 : r = p := Int32.toInt_inj.mp z
      subst z1
      have q := h.2.1 r hp
      have e0 := pr_i (p := r) (by omega)
      have k1 := po_i (p := r) (by omega) z_1 (by omega)
      have k2 := po_i (p := r) (by omega) z_2 (by omega)
      have k3 := po_i (p := r) (by omega) z_3 (by omega)
      have k4 := po_i (p := r) (by omega) z_4 (by omega)
      have k6 := po_i (p := r) (by omega) z_6 (by omega)
      have k7 := po_i (p := r) (by omega) z_7 (by omega)
      refine ⟨?_, ?_, ?_, ?_, ?_, ?_, ?_⟩
      · rw [at_ne (by omega) (by omega) (by omega)]; exact (ga_sa_k (by decide)).trans q.1
      · rw [at_ne (by omega) (by omega) (by omega)]; exact (ga_sa_k (by decide)).trans q.2.1
      · rw [at_ne (by omega) (by omega) (by omega)]; exact (ga_sa_k (by decide)).trans q.2.2.1
      · rw [at_ne (by omega) (by omega) (by omega)]; exact (ga_sa_k (by decide)).trans q.2.2.2.1
      · rw [at_ne (by omega) (by omega) (by omega)]; exact (ga_sa_k (by decide)).trans q.2.2.2.2.1
      · rw [ga_sa_eq, ga_sa_eq]
      · rw [at_ne (by omega) (by omega) (by omega), at_ne (by omega) (by omega) (by omega)]; exact (ga_sa_k (by decide)).trans q.2.2.2.2.2.2
    · exact RP_keep h hS hr (by omega) (by omega) (ga_sa_k (by decide)) (ga_sa_k (by decide)) (ga_sa_k (by decide)) (ga_sa_k (by decide)) (ga_sa_k (by decide)) (ar_ne (by omega) (by omega) (by omega)) (ga_sa_k (by decide))
  · have q := h.2.2.1 d hd
    have e1 := di_i (d := d) (by omega)
    have e2 := dj_i (d := d) (by omega)
    rw [at_ne (by omega) (by omega) (by omega), at_ne (by omega) (by omega) (by omega)]
    exact ⟨(ga_sa_k (by decide)).trans q.1, (ga_sa_k (by decide)).trans q.2⟩
  · have ej := dr_i hc hd
    rw [at_ne (by omega) (by omega) (by omega)]
    exact (ga_sa_k (by decide)).trans (h.2.2.2 c d hc hd)
/-- drinks: had (K = 6) or bought (K = 7) -/
theorem RT_drink {p v k w : Int32} {K : Int} (h : RT τ σ) (hS : SL σ 0) (hp : 0 ≤ p.toInt ∧ p.toInt < (ga σ 0 0).toInt) (hk : k.toInt = K) (hK : (K = 6 ∧ v = w - ga σ 0 (f_X6_personRow p + 7)) ∨ (K = 7 ∧ v = ga σ 0 (f_X6_personRow p + 6) - w)) : RT (sa τ 13 p v) (sa σ 0 (f_X6_personRow p + k) w) := by
  have hP := SL_p hS
  have hD := SL_d hS
  have ei := po_i (p := p) (by omega) hk (by omega)
  refine RT_hi (τ' := sa τ 13 p v) h hS ei (by omega) (fun _ _ => rfl) (fun x => ga_sa_k (by decide)) (fun r hr => ?_) (fun d hd => ?_) (fun c d hc hd => ?_)
  · by_cases z : r.toInt = p.toInt
    · have z1 : r = p := Int32.toInt_inj.mp z
      subst z1
      have q := h.2.1 r hp
      have e0 := pr_i (p := r) (by omega)
      have k1 := po_i (p := r) (by omega) z_1 (by omega)
      have k2 := po_i (p := r) (by omega) z_2 (by omega)
      have k3 := po_i (p := r) (by omega) z_3 (by omega)
      have k4 := po_i (p := r) (by omega) z_4 (by omega)
      have k5 := po_i (p := r) (by omega) z_5 (by omega)
      have k6 := po_i (p := r) (by omega) z_6 (by omega)
      have k7 := po_i (p := r) (by omega) z_7 (by omega)
      refine ⟨?_, ?_, ?_, ?_, ?_, ?_, ?_⟩
      · rw [at_ne (by omega) (by omega) (by omega)]; exact (ga_sa_k (by decide)).trans q.1
      · rw [at_ne (by omega) (by omega) (by omega)]; exact (ga_sa_k (by decide)).trans q.2.1
      · rw [at_ne (by omega) (by omega) (by omega)]; exact (ga_sa_k (by decide)).trans q.2.2.1
      · rw [at_ne (by omega) (by omega) (by omega)]; exact (ga_sa_k (by decide)).trans q.2.2.2.1
      · rw [at_ne (by omega) (by omega) (by omega)]; exact (ga_sa_k (by decide)).trans q.2.2.2.2.1
      · rw [at_ne (by omega) (by omega) (by omega)]; exact (ga_sa_k (by decide)).trans q.2.2.2.2.2.1
      · rw [ga_sa_eq]
        rcases hK with ⟨hK, hv⟩ | ⟨hK, hv⟩
        · have : k = 6 := Int32.toInt_inj.mp (by rw [z_6]; omega)
          subst this
          rw [ga_sa_eq, at_ne (by omega) (by omega) (by omega)]; exact hv
        · have : k = 7 := Int32.toInt_inj.mp (by rw [z_7]; omega)
          subst this
          rw [ga_sa_eq, at_ne (by omega) (by omega) (by omega)]; exact hv
    · exact RP_keep h hS hr (by omega) (by omega) (ga_sa_k (by decide)) (ga_sa_k (by decide)) (ga_sa_k (by decide)) (ga_sa_k (by decide)) (ga_sa_k (by decide)) (ga_sa_k (by decide)) (ar_ne (by omega) (by omega) (by omega))
  · have q := h.2.2.1 d hd
    have e1 := di_i (d := d) (by omega)
    have e2 := dj_i (d := d) (by omega)
    rw [at_ne (by omega) (by omega) (by omega), at_ne (by omega) (by omega) (by omega)]
    exact ⟨(ga_sa_k (by decide)).trans q.1, (ga_sa_k (by decide)).trans q.2⟩
  · have ej := dr_i hc hd
    rw [at_ne (by omega) (by omega) (by omega)]
    exact (ga_sa_k (by decide)).trans (h.2.2.2 c d hc hd)
theorem gi_si {τ : MS} {k j : Nat} {v : Int32} : gi (si τ k v) j = if j = k then v else gi τ j := rfl
/-- one of the first numbers but people, dishes, guests -/
theorem RT_num {k : Nat} {i v : Int32} (h : RT τ σ) (hS : SL σ 0) (hki : (k = 2 ∧ i = 1) ∨ (k = 4 ∧ i = 3) ∨ (k = 5 ∧ i = 4) ∨ (k = 6 ∧ i = 5) ∨ (k = 7 ∧ i = 6) ∨ (k = 8 ∧ i = 8)) : RT (si τ k v) (sa σ 0 i v) := by
  have hP := SL_p hS
  have hD := SL_d hS
  have hi : 1 ≤ i.toInt ∧ i.toInt ≤ 8 ∧ ¬ i.toInt = 2 ∧ ¬ i.toInt = 7 := by
    rcases hki with ⟨_, q⟩ | ⟨_, q⟩ | ⟨_, q⟩ | ⟨_, q⟩ | ⟨_, q⟩ | ⟨_, q⟩ <;> subst q <;> decide
  have e0 : ga (sa σ 0 i v) 0 0 = ga σ 0 0 := at_ne (by rw [z_0]; omega) (by omega) (by rw [z_0]; omega)
  have e2 : ga (sa σ 0 i v) 0 2 = ga σ 0 2 := at_ne (by rw [z_2]; omega) (by omega) (by rw [z_2]; omega)
  have e7 : ga (sa σ 0 i v) 0 7 = ga σ 0 7 := at_ne (by rw [z_7]; omega) (by omega) (by rw [z_7]; omega)
  refine ⟨?_, ?_, ?_, ?_⟩
  · have h1 := h.1
    have g7 : f_X5_guests (si τ k v) = f_X5_guests τ := gu_same (by rw [gi_si, if_neg (by omega)]) (fun _ => rfl)
    have n1 : gi (si τ k v) 1 = gi τ 1 := by rw [gi_si, if_neg (by omega)]
    have n3 : gi (si τ k v) 3 = gi τ 3 := by rw [gi_si, if_neg (by omega)]
    refine ⟨by rw [n1, e0]; exact h1.1, ?_, by rw [n3, e2]; exact h1.2.2.1, ?_, ?_, ?_, ?_, ?_, by rw [g7, e7]; exact h.g⟩
    · rcases hki with ⟨q1, q⟩ | ⟨q1, q⟩ | ⟨q1, q⟩ | ⟨q1, q⟩ | ⟨q1, q⟩ | ⟨q1, q⟩ <;> subst q1 <;> subst q <;> first | (rw [ga_sa_eq]; rfl) | (rw [at_ne (by decide) (by decide) (by decide)]; exact h1.2.1)
    · rcases hki with ⟨q1, q⟩ | ⟨q1, q⟩ | ⟨q1, q⟩ | ⟨q1, q⟩ | ⟨q1, q⟩ | ⟨q1, q⟩ <;> subst q1 <;> subst q <;> first | (rw [ga_sa_eq]; rfl) | (rw [at_ne (by decide) (by decide) (by decide)]; exact h1.2.2.2.1)
    · rcases hki with ⟨q1, q⟩ | ⟨q1, q⟩ | ⟨q1, q⟩ | ⟨q1, q⟩ | ⟨q1, q⟩ | ⟨q1, q⟩ <;> subst q1 <;> subst q <;> first | (rw [ga_sa_eq]; rfl) | (rw [at_ne (by decide) (by decide) (by decide)]; exact h1.2.2.2.2.1)
    · rcases hki with ⟨q1, q⟩ | ⟨q1, q⟩ | ⟨q1, q⟩ | ⟨q1, q⟩ | ⟨q1, q⟩ | ⟨q1, q⟩ <;> subst q1 <;> subst q <;> first | (rw [ga_sa_eq]; rfl) | (rw [at_ne (by decide) (by decide) (by decide)]; exact h1.2.2.2.2.2.1)
    · rcases hki with ⟨q1, q⟩ | ⟨q1, q⟩ | ⟨q1, q⟩ | ⟨q1, q⟩ | ⟨q1, q⟩ | ⟨q1, q⟩ <;> subst q1 <;> subst q <;> first | (rw [ga_sa_eq]; rfl) | (rw [at_ne (by decide) (by decide) (by decide)]; exact h1.2.2.2.2.2.2.1)
    · rcases hki with ⟨q1, q⟩ | ⟨q1, q⟩ | ⟨q1, q⟩ | ⟨q1, q⟩ | ⟨q1, q⟩ | ⟨q1, q⟩ <;> subst q1 <;> subst q <;> first | (rw [ga_sa_eq]; rfl) | (rw [at_ne (by decide) (by decide) (by decide)]; exact h1.2.2.2.2.2.2.2.1)
  · intro p hp
    rw [e0] at hp
    exact RP_keep h hS hp (by omega) (by omega) rfl rfl rfl rfl rfl rfl rfl
  · intro d hd
    rw [e2] at hd
    have q := h.2.2.1 d hd
    have e1 := di_i (d := d) (by omega)
    have e2 := dj_i (d := d) (by omega)
    rw [at_ne (by omega) (by omega) (by omega), at_ne (by omega) (by omega) (by omega)]
    exact q
  · intro c d hc hd
    have ej := dr_i hc hd
    rw [at_ne (by omega) (by omega) (by omega)]
    exact h.2.2.2 c d hc hd
end RT2
