/-! CALL BY CALL: order -/
set_option maxRecDepth 100000
section ORDL
variable {τ μ : MS} {d : Nat} {v w : Int32} {u : OU}
theorem ord_F0 (hd15 : d ≤ 15) : (∀ j : Int32, 0 ≤ j.toInt → j.toInt < 3000 → ¬ j.toInt = 60 + 2 * (d : Int) → ¬ j.toInt = 60 + 2 * (d : Int) + 1 → ¬ j.toInt = 2 → ga (sa (sa (sa μ 0 (nI (60 + 2 * d)) v) 0 (nI (60 + 2 * d + 1)) w) 0 2 (nI (d + 1))) 0 j = ga μ 0 j) ∧ ga (sa (sa (sa μ 0 (nI (60 + 2 * d)) v) 0 (nI (60 + 2 * d + 1)) w) 0 2 (nI (d + 1))) 0 2 = nI (d + 1) ∧ ga (sa (sa (sa μ 0 (nI (60 + 2 * d)) v) 0 (nI (60 + 2 * d + 1)) w) 0 2 (nI (d + 1))) 0 (nI (60 + 2 * d)) = v ∧ ga (sa (sa (sa μ 0 (nI (60 + 2 * d)) v) 0 (nI (60 + 2 * d + 1)) w) 0 2 (nI (d + 1))) 0 (nI (60 + 2 * d + 1)) = w := by
  have a0 : (nI (60 + 2 * d)).toInt = 60 + 2 * (d : Int) := by rw [nI_toInt (by omega)]; omega
  have a1 : (nI (60 + 2 * d + 1)).toInt = 60 + 2 * (d : Int) + 1 := by rw [nI_toInt (by omega)]; omega
  refine ⟨fun j h0 h3 h1 h2 h4 => ?_, ga_sa_eq, ?_, ?_⟩
  · rw [at_ne (by rw [z_2]; omega) (by rw [z_2]; omega) h0, at_ne (by omega) (by omega) h0, at_ne (by omega) (by omega) h0]
  · rw [at_ne (by rw [z_2]; omega) (by rw [z_2]; omega) (by omega), at_ne (by omega) (by omega) (by omega)]
    exact ga_sa_eq
  · rw [at_ne (by rw [z_2]; omega) (by rw [z_2]; omega) (by omega)]
    exact ga_sa_eq
theorem RT_ord (h : RT τ μ) (hS : SL μ 0) (hd : ga μ 0 2 = nI d) (hd15 : d ≤ 15) (hu : ordP τ d v w u) : RT (ordT τ u) (sa (sa (sa μ 0 (nI (60 + 2 * d)) v) 0 (nI (60 + 2 * d + 1)) w) 0 2 (nI (d + 1))) := by
  have hP := SL_p hS
  obtain ⟨E, e2, e60, e61⟩ := ord_F0 (μ := μ) (v := v) (w := w) hd15
  generalize sa (sa (sa μ 0 (nI (60 + 2 * d)) v) 0 (nI (60 + 2 * d + 1)) w) 0 2 (nI (d + 1)) = F at E e2 e60 e61
  obtain ⟨-, -, ⟨u1, u2⟩, u3, u4⟩ := hu
  have G : ∀ j, ¬ j = 3 → gi (ordT τ u) j = gi τ j := fun j hj => by
    show upd τ.1 3 (τ.1 3 + 1) j = τ.1 j
    simp [upd, hj]
  have K : ∀ k, ¬ k = 9 → ¬ k = 10 → ∀ x, ga (ordT τ u) k x = ga τ k x := fun k h1 h2 x => by
    show (if k = 9 then u.2.2.2.1 else if k = 10 then u.2.2.2.2 else τ.2.2.1 k) x.toNatClampNeg = τ.2.2.1 k x.toNatClampNeg
    rw [if_neg h1, if_neg h2]
  have e0 := E 0 (by rw [z_0]; omega) (by rw [z_0]; omega) (by rw [z_0]; omega) (by rw [z_0]; omega) (by rw [z_0]; omega)
  refine ⟨⟨?_, ?_, ?_, ?_, ?_, ?_, ?_, ?_, ?_⟩, fun p hp => ?_, fun j hj => ?_, fun a b ha hb => ?_⟩
  · rw [G 1 (by omega), e0]; exact h.1.1
  · rw [G 2 (by omega), E 1 (by rw [z_1]; omega) (by rw [z_1]; omega) (by rw [z_1]; omega) (by rw [z_1]; omega) (by rw [z_1]; omega)]; exact h.1.2.1
  · rw [e2]
    show gi τ 3 + 1 = _
    rw [h.d, hd, nI_1]
  · rw [G 4 (by omega), E 3 (by rw [z_3]; omega) (by rw [z_3]; omega) (by rw [z_3]; omega) (by rw [z_3]; omega) (by rw [z_3]; omega)]; exact h.1.2.2.2.1
  · rw [G 5 (by omega), E 4 (by rw [z_4]; omega) (by rw [z_4]; omega) (by rw [z_4]; omega) (by rw [z_4]; omega) (by rw [z_4]; omega)]; exact h.1.2.2.2.2.1
  · rw [G 6 (by omega), E 5 (by rw [z_5]; omega) (by rw [z_5]; omega) (by rw [z_5]; omega) (by rw [z_5]; omega) (by rw [z_5]; omega)]; exact h.1.2.2.2.2.2.1
  · rw [G 7 (by omega), E 6 (by rw [z_6]; omega) (by rw [z_6]; omega) (by rw [z_6]; omega) (by rw [z_6]; omega) (by rw [z_6]; omega)]; exact h.1.2.2.2.2.2.2.1
  · rw [G 8 (by omega), E 8 (by rw [z_8]; omega) (by rw [z_8]; omega) (by rw [z_8]; omega) (by rw [z_8]; omega) (by rw [z_8]; omega)]; exact h.1.2.2.2.2.2.2.2.1
  · rw [gu_same (τ := τ) (G 1 (by omega)) (K 26 (by omega) (by omega)), E 7 (by rw [z_7]; omega) (by rw [z_7]; omega) (by rw [z_7]; omega) (by rw [z_7]; omega) (by rw [z_7]; omega)]; exact h.g
  · rw [e0] at hp
    have i0 := pr_i (p := p) (by omega)
    have k1 := po_i (p := p) (by omega) z_1 (by omega)
    have k2 := po_i (p := p) (by omega) z_2 (by omega)
    have k3 := po_i (p := p) (by omega) z_3 (by omega)
    have k4 := po_i (p := p) (by omega) z_4 (by omega)
    have k5 := po_i (p := p) (by omega) z_5 (by omega)
    have k6 := po_i (p := p) (by omega) z_6 (by omega)
    have k7 := po_i (p := p) (by omega) z_7 (by omega)
    rw [K 21 (by omega) (by omega), K 22 (by omega) (by omega), K 23 (by omega) (by omega), K 24 (by omega) (by omega), K 25 (by omega) (by omega), K 11 (by omega) (by omega), K 13 (by omega) (by omega),
      E _ (by omega) (by omega) (by omega) (by omega) (by omega), E _ (by omega) (by omega) (by omega) (by omega) (by omega), E _ (by omega) (by omega) (by omega) (by omega) (by omega), E _ (by omega) (by omega) (by omega) (by omega) (by omega), E _ (by omega) (by omega) (by omega) (by omega) (by omega), E _ (by omega) (by omega) (by omega) (by omega) (by omega), E _ (by omega) (by omega) (by omega) (by omega) (by omega), E _ (by omega) (by omega) (by omega) (by omega) (by omega)]
    exact h.2.1 p hp
  · rw [e2, nI_toInt (by omega)] at hj
    obtain ⟨k, hk, rfl⟩ := small_nI (x := j) (n := 16) (by omega)
    rw [nI_toInt (by omega)] at hj
    have i0 : (60 : Int32) + 2 * nI k = nI (60 + 2 * k) := by
      rw [show (2 : Int32) * nI k = nI (2 * k) from nI_mul 2 k]
      exact nI_add 60 _
    have e9 : ga (ordT τ u) 9 (nI k) = u.2.2.2.1 k := by
      show u.2.2.2.1 (nI k).toNatClampNeg = _
      rw [nI_clamp (by omega)]
    have e10 : ga (ordT τ u) 10 (nI k) = u.2.2.2.2 k := by
      show u.2.2.2.2 (nI k).toNatClampNeg = _
      rw [nI_clamp (by omega)]
    rw [e9, e10, i0, nI_1]
    by_cases z : k = d
    · subst z
      rw [e60, e61]
      exact ⟨u2, u4⟩
    · have q := h.2.2.1 (nI k) (by rw [hd, nI_toInt (by omega), nI_toInt (by omega)]; omega)
      rw [i0, nI_1] at q
      rw [E _ (by rw [nI_toInt (by omega)]; omega) (by rw [nI_toInt (by omega)]; omega) (by rw [nI_toInt (by omega)]; omega) (by rw [nI_toInt (by omega)]; omega) (by rw [nI_toInt (by omega)]; omega), E _ (by rw [nI_toInt (by omega)]; omega) (by rw [nI_toInt (by omega)]; omega) (by rw [nI_toInt (by omega)]; omega) (by rw [nI_toInt (by omega)]; omega) (by rw [nI_toInt (by omega)]; omega), u1 k (by omega), u3 k (by omega)]
      unfold ga at q ⊢
      rw [nI_clamp (n := k) (by omega)] at q
      exact q
  · have i0 := dr_i ha hb
    rw [K 12 (by omega) (by omega), E _ (by omega) (by omega) (by omega) (by omega) (by omega)]
    exact h.2.2.2 a b ha hb
end ORDL
theorem law_order {N : Int} {σ : MS × MS} {μ : MS} (h : RL N σ μ) {d : Nat} {r : Nat → Nat} {p1 p2 ret : Int32} {x : (Nat → Nat) × (MS × MS)} (hd : σ.2.1 3 = nI d) (hd16 : d ≤ 16)
    (hq : (¬ ordSt σ p1 p2 = 0 ∧ x = (r, lsi σ 7 (ordSt σ p1 p2)) ∧ ret = -1) ∨ (ordSt σ p1 p2 = 0 ∧ ∃ u : OU, x = (ordR r u, ((lsi σ 7 0).1, ordT σ.2 u)) ∧ ret = σ.2.1 3 + 1 ∧ ordP σ.2 d p1 p2 u)) : AG N (x.2, ret) (f_X6_order μ p1 p2) μ := by
  have hd2 : ga μ 0 2 = nI d := h.t.d.symm.trans hd
  have hS := h.s
  have hi : f_X0_isIn p1.toInt64 1 999 = f_X6_isFrom p1.toInt64 1 999 := isFr _ _ _
  have hp := e_isPer h p2
  -- refused
  have REF : ∀ st : Int32, ordSt σ p1 p2 = st → ¬ st = 0 → f_X6_order μ p1 p2 = f_X6_refuse μ st → AG N (x.2, ret) (f_X6_order μ p1 p2) μ := fun st h1 h2 h3 => by
    rcases hq with ⟨-, q2, q3⟩ | ⟨q1, -⟩
    · rw [h3, q2, q3, h1]
      exact ag_ref h st
    · exact (h2 (h1.symm.trans q1)).elim
  -- the dish
  have DO : ordSt σ p1 p2 = (if σ.2.1 3 = 16 then 4 else 0) → (1 ≤ p1.toInt ∧ p1.toInt ≤ 999) → (p2 = -1 ∨ (0 ≤ p2.toInt ∧ p2.toInt ≤ 5)) → f_X6_order μ p1 p2 = (if ga μ 0 2 = 16 then f_X6_refuse μ 4 else f_X6_gives (sa (sa (sa μ 0 (60 + 2 * ga μ 0 2) p1) 0 (60 + 2 * ga μ 0 2 + 1) p2) 0 2 (ga (sa (sa μ 0 (60 + 2 * ga μ 0 2) p1) 0 (60 + 2 * ga μ 0 2 + 1) p2) 0 2 + 1)) (ga (sa (sa (sa μ 0 (60 + 2 * ga μ 0 2) p1) 0 (60 + 2 * ga μ 0 2 + 1) p2) 0 2 (ga (sa (sa μ 0 (60 + 2 * ga μ 0 2) p1) 0 (60 + 2 * ga μ 0 2 + 1) p2) 0 2 + 1)) 0 2)) → AG N (x.2, ret) (f_X6_order μ p1 p2) μ := by
    intro hst hp1 hp2 hm
    have i0 : (60 : Int32) + 2 * nI d = nI (60 + 2 * d) := by
      rw [show (2 : Int32) * nI d = nI (2 * d) from nI_mul 2 d]
      exact nI_add 60 _
    rw [hd2, i0, nI_1] at hm
    by_cases c : nI d = (16 : Int32)
    · rw [if_pos c] at hm
      exact REF 4 (by rw [hst, hd, if_pos c]) (by decide) hm
    · have hd15 : d ≤ 15 := by
        rcases Nat.lt_or_ge d 16 with z | z
        · omega
        · exact (c (by rw [show d = 16 by omega]; rfl)).elim
      rw [if_neg c] at hm
      have e2 : ga (sa (sa μ 0 (nI (60 + 2 * d)) p1) 0 (nI (60 + 2 * d + 1)) p2) 0 2 = nI d := by
        rw [at_ne (by rw [nI_toInt (by omega), z_2]; omega) (by rw [nI_toInt (by omega)]; omega) (by rw [z_2]; omega), at_ne (by rw [nI_toInt (by omega), z_2]; omega) (by rw [nI_toInt (by omega)]; omega) (by rw [z_2]; omega)]
        exact hd2
      rw [e2, nI_1, ga_sa_eq] at hm
      rcases hq with ⟨q1, -⟩ | ⟨-, u, q2, q3, q4⟩
      · exact (q1 (by rw [hst, hd, if_neg c])).elim
      · rw [hm, q2, q3]
        have hRT := RT_ord (v := p1) (w := p2) h.t hS hd2 hd15 q4
        obtain ⟨E, g2, g60, g61⟩ := ord_F0 (μ := μ) (v := p1) (w := p2) hd15
        have hSL : SL (sa (sa (sa μ 0 (nI (60 + 2 * d)) p1) 0 (nI (60 + 2 * d + 1)) p2) 0 2 (nI (d + 1))) 0 := by
          refine SL_sa (X := 2) z_2 (by omega) (by omega) (fun _ _ => ?_) (SL_sa (X := 60 + 2 * (d : Int) + 1) (by rw [nI_toInt (by omega)]; omega) (by omega) (by omega) (fun _ _ => ?_) (SL_sa (X := 60 + 2 * (d : Int)) (by rw [nI_toInt (by omega)]; omega) (by omega) (by omega) (fun _ _ => ?_) hS))
          · rw [nI_toInt (by omega)]; unfold CV; omega
          · rcases hp2 with z | z
            · rw [z, z_m1]; unfold CV; omega
            · unfold CV; omega
          · unfold CV; omega
        have hDP : DP0 (sa (sa (sa μ 0 (nI (60 + 2 * d)) p1) 0 (nI (60 + 2 * d + 1)) p2) 0 2 (nI (d + 1))) := fun j hj => by
          rw [g2, nI_toInt (by omega)] at hj
          obtain ⟨k, hk, rfl⟩ := small_nI (x := j) (n := 16) (by omega)
          rw [nI_toInt (by omega)] at hj
          have i1 : (60 : Int32) + 2 * nI k = nI (60 + 2 * k) := by
            rw [show (2 : Int32) * nI k = nI (2 * k) from nI_mul 2 k]
            exact nI_add 60 _
          rw [i1]
          by_cases z : k = d
          · subst z
            rw [g60]
            exact hp1.1
          · rw [E _ (by rw [nI_toInt (by omega)]; omega) (by rw [nI_toInt (by omega)]; omega) (by rw [nI_toInt (by omega)]; omega) (by rw [nI_toInt (by omega)]; omega) (by rw [nI_toInt (by omega)]; omega)]
            have q := h.2.1.2.1 (nI k) (by rw [hd2, nI_toInt (by omega), nI_toInt (by omega)]; omega)
            rw [i1] at q
            exact q
        have hPB : PB (sa (sa (sa μ 0 (nI (60 + 2 * d)) p1) 0 (nI (60 + 2 * d + 1)) p2) 0 2 (nI (d + 1))) N := PB_ne (PB_ne (PB_ne h.b (by rw [nI_toInt (by omega)]; omega) (by rw [nI_toInt (by omega)]; omega)) (by rw [nI_toInt (by omega)]; omega) (by rw [nI_toInt (by omega)]; omega)) (by rw [z_2]; omega) (by rw [z_2]; omega)
        have hKE : KE μ (sa (sa (sa μ 0 (nI (60 + 2 * d)) p1) 0 (nI (60 + 2 * d + 1)) p2) 0 2 (nI (d + 1))) := ((KE_s0 (X := 60 + 2 * (d : Int)) (by rw [nI_toInt (by omega)]; omega) (by omega)).tr (KE_s0 (X := 60 + 2 * (d : Int) + 1) (by rw [nI_toInt (by omega)]; omega) (by omega))).tr (KE_s0 (X := 2) z_2 (by omega))
        refine ⟨?_, ⟨hRT, ⟨hSL, hDP, hPB, h.2.1.2.2.2⟩, ?_⟩, hKE.tr KE_si⟩
        · show σ.2.1 3 + 1 = nI (d + 1)
          rw [hd, nI_1]
        · obtain ⟨r1, r2, r3, r4, r5, r6⟩ := h.2.2
          exact ⟨rfl, r2, r3, r4, r5, r6⟩
  have em : f_X6_order μ p1 p2 = if f_X6_isFrom p1.toInt64 1 999 = 0 then f_X6_refuse μ 1 else if p2 = -1 then (if ga μ 0 2 = 16 then f_X6_refuse μ 4 else f_X6_gives (sa (sa (sa μ 0 (60 + 2 * ga μ 0 2) p1) 0 (60 + 2 * ga μ 0 2 + 1) p2) 0 2 (ga (sa (sa μ 0 (60 + 2 * ga μ 0 2) p1) 0 (60 + 2 * ga μ 0 2 + 1) p2) 0 2 + 1)) (ga (sa (sa (sa μ 0 (60 + 2 * ga μ 0 2) p1) 0 (60 + 2 * ga μ 0 2 + 1) p2) 0 2 (ga (sa (sa μ 0 (60 + 2 * ga μ 0 2) p1) 0 (60 + 2 * ga μ 0 2 + 1) p2) 0 2 + 1)) 0 2)) else if f_X6_isPerson μ p2 = 0 then f_X6_refuse μ 1 else (if ga μ 0 2 = 16 then f_X6_refuse μ 4 else f_X6_gives (sa (sa (sa μ 0 (60 + 2 * ga μ 0 2) p1) 0 (60 + 2 * ga μ 0 2 + 1) p2) 0 2 (ga (sa (sa μ 0 (60 + 2 * ga μ 0 2) p1) 0 (60 + 2 * ga μ 0 2 + 1) p2) 0 2 + 1)) (ga (sa (sa (sa μ 0 (60 + 2 * ga μ 0 2) p1) 0 (60 + 2 * ga μ 0 2 + 1) p2) 0 2 (ga (sa (sa μ 0 (60 + 2 * ga μ 0 2) p1) 0 (60 + 2 * ga μ 0 2 + 1) p2) 0 2 + 1)) 0 2)) := rfl
  have es : ordSt σ p1 p2 = if f_X0_isIn p1.toInt64 1 999 = 0 then 1 else if p2 = -1 then (if σ.2.1 3 = 16 then 4 else 0) else if f_X0_isPerson σ p2 = 0 then 1 else (if σ.2.1 3 = 16 then 4 else 0) := rfl
  rw [hi, hp] at es
  by_cases c1 : f_X6_isFrom p1.toInt64 1 999 = 0
  · rw [if_pos c1] at em es
    exact REF 1 es (by decide) em
  rw [if_neg c1] at em es
  have hp1 : 1 ≤ p1.toInt ∧ p1.toInt ≤ 999 := by
    rw [← hi, isIn_v] at c1
    split at c1
    · rename_i q
      rw [Int32.toInt_toInt64] at q
      exact q
    · exact absurd rfl c1
  by_cases c2 : p2 = -1
  · rw [if_pos c2] at em es
    exact DO es hp1 (Or.inl c2) em
  rw [if_neg c2] at em es
  by_cases c3 : f_X6_isPerson μ p2 = 0
  · rw [if_pos c3] at em es
    exact REF 1 es (by decide) em
  rw [if_neg c3] at em es
  have q := isPer c3
  have hn := h.p
  exact DO es hp1 (Or.inr (by omega)) em
