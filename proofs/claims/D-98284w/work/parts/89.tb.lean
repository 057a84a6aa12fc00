/-! TEXTS: a new table, cell by cell -/
set_option maxRecDepth 100000
/-- the great row by Nat -/
def nt (μ : MS) (k : Nat) : Int32 := ga μ 0 (nI k)
theorem nt_eq {μ : MS} {j k : Nat} {v : Int32} (h : j = k) : nt (sa μ 0 (nI k) v) j = v := by subst h; exact ga_sa_eq
theorem nt_ne {μ : MS} {j k : Nat} {v : Int32} (h : ¬ j = k) (hj : j < 100000) (hk : k < 100000) : nt (sa μ 0 (nI k) v) j = nt μ j := by
  unfold nt
  exact ga_sa_ne (nI_toInt (by omega)) (nI_toInt (by omega)) (by omega)
theorem nt_sa {μ : MS} {j k : Nat} {v : Int32} (hj : j < 100000) (hk : k < 100000) : nt (sa μ 0 (nI k) v) j = if j = k then v else nt μ j := by
  split
  · rename_i c; exact nt_eq c
  · rename_i c; exact nt_ne c hj hk
theorem nt_of {μ μ' : MS} (e : μ'.2 = μ.2) (k : Nat) : nt μ' k = nt μ k := by unfold nt ga; rw [e]
theorem ix_p (p k : Nat) : ((2012 : Int32) + (8 : Int32) * nI p) + nI k = nI (2012 + 8 * p + k) := by
  rw [show (8 : Int32) * nI p = nI (8 * p) from nI_mul 8 p, show (2012 : Int32) + nI (8 * p) = nI (2012 + 8 * p) from nI_add 2012 _, nI_add]
theorem ix_p0 (p : Nat) : (2012 : Int32) + (8 : Int32) * nI p = nI (2012 + 8 * p) := by
  rw [show (8 : Int32) * nI p = nI (8 * p) from nI_mul 8 p, show (2012 : Int32) + nI (8 * p) = nI (2012 + 8 * p) from nI_add 2012 _]
theorem ix_d (j : Nat) : (2060 : Int32) + (2 : Int32) * nI j = nI (2060 + 2 * j) := by
  rw [show (2 : Int32) * nI j = nI (2 * j) from nI_mul 2 j, show (2060 : Int32) + nI (2 * j) = nI (2060 + 2 * j) from nI_add 2060 _]
theorem ix_o (a b : Nat) : ((2092 : Int32) + (6 : Int32) * nI a) + nI b = nI (2092 + 6 * a + b) := by
  rw [show (6 : Int32) * nI a = nI (6 * a) from nI_mul 6 a, show (2092 : Int32) + nI (6 * a) = nI (2092 + 6 * a) from nI_add 2092 _, nI_add]
/-- a table being read (n people, d dishes) against the reference's new slot -/
def PR (n d : Nat) (τ μ : MS) : Prop :=
  (gi τ 1 = nI n ∧ nt μ 2000 = nI n ∧ n ≤ 6) ∧ gi τ 2 = nt μ 2001 ∧ (gi τ 3 = nI d ∧ nt μ 2002 = nI d ∧ d ≤ 16) ∧
  (gi τ 4 = nt μ 2003 ∧ gi τ 5 = nt μ 2004 ∧ (gi τ 6 = 0 ∧ nt μ 2005 = 0) ∧ gi τ 7 = 0 ∧ nt μ 2006 = 0 ∧ nt μ 2009 = -1) ∧
  (f_X5_guests τ = nt μ 2007 ∧ nt μ 2008 = nI (2 ^ n - 1)) ∧
  (∀ p, p < n → ga τ 21 (nI p) = nt μ (2012 + 8 * p) ∧ ga τ 22 (nI p) = nt μ (2012 + 8 * p + 1) ∧ ga τ 23 (nI p) = nt μ (2012 + 8 * p + 2) ∧ ga τ 24 (nI p) = nt μ (2012 + 8 * p + 3) ∧ ga τ 25 (nI p) = nt μ (2012 + 8 * p + 4) ∧ (nt μ (2012 + 8 * p + 4) = -1 ∨ ¬ nt μ (2012 + 8 * p + 4) < 0)) ∧
  (∀ p, p < 6 → (ga τ 11 (nI p) = 0 ∧ ga τ 13 (nI p) = 0) ∧ nt μ (2012 + 8 * p + 5) = 0 ∧ nt μ (2012 + 8 * p + 6) = 0 ∧ nt μ (2012 + 8 * p + 7) = 0) ∧
  (∀ p, n ≤ p → p < 6 → nt μ (2012 + 8 * p) = 0 ∧ nt μ (2012 + 8 * p + 2) = 0) ∧
  (∀ j, j < d → ga τ 9 (nI j) = nt μ (2060 + 2 * j) ∧ ga τ 10 (nI j) = nt μ (2060 + 2 * j + 1)) ∧
  (∀ a b, a < 6 → b < 6 → ga τ 12 (nI (6 * a + b)) = nt μ (2092 + 6 * a + b)) ∧
  (∀ p, p < n → NMr (gb τ 20 (nI p)) (gb μ 1 (24 + nI p)))
theorem PR.agree {n d : Nat} {τ μ μ' : MS} (h : PR n d τ μ) (e : ∀ k, 2000 ≤ k → k < 2130 → nt μ' k = nt μ k) (eb : ∀ p, p < 6 → gb μ' 1 (24 + nI p) = gb μ 1 (24 + nI p)) : PR n d τ μ' := by
  obtain ⟨⟨a1, a2, a3⟩, b, ⟨c1, c2, c3⟩, ⟨d1, d2, ⟨d3, d4⟩, d5, d6, d7⟩, ⟨f1, f2⟩, P, Q, Z, DD, O, N⟩ := h
  refine ⟨⟨a1, ?_, a3⟩, ?_, ⟨c1, ?_, c3⟩, ⟨?_, ?_, ⟨d3, ?_⟩, d5, ?_, ?_⟩, ⟨?_, ?_⟩, ?_, ?_, ?_, ?_, ?_, ?_⟩
  · rw [e _ (by omega) (by omega)]; exact a2
  · rw [e _ (by omega) (by omega)]; exact b
  · rw [e _ (by omega) (by omega)]; exact c2
  · rw [e _ (by omega) (by omega)]; exact d1
  · rw [e _ (by omega) (by omega)]; exact d2
  · rw [e _ (by omega) (by omega)]; exact d4
  · rw [e _ (by omega) (by omega)]; exact d6
  · rw [e _ (by omega) (by omega)]; exact d7
  · rw [e _ (by omega) (by omega)]; exact f1
  · rw [e _ (by omega) (by omega)]; exact f2
  · intro p hp
    rw [e (2012 + 8 * p) (by omega) (by omega), e (2012 + 8 * p + 1) (by omega) (by omega), e (2012 + 8 * p + 2) (by omega) (by omega), e (2012 + 8 * p + 3) (by omega) (by omega), e (2012 + 8 * p + 4) (by omega) (by omega)]
    exact P p hp
  · intro p hp
    rw [e (2012 + 8 * p + 5) (by omega) (by omega), e (2012 + 8 * p + 6) (by omega) (by omega), e (2012 + 8 * p + 7) (by omega) (by omega)]
    exact Q p hp
  · intro p h1 hp
    rw [e (2012 + 8 * p) (by omega) (by omega), e (2012 + 8 * p + 2) (by omega) (by omega)]
    exact Z p h1 hp
  · intro j hj
    rw [e (2060 + 2 * j) (by omega) (by omega), e (2060 + 2 * j + 1) (by omega) (by omega)]
    exact DD j hj
  · intro a b ha hb
    rw [e (2092 + 6 * a + b) (by omega) (by omega)]
    exact O a b ha hb
  · intro p hp
    rw [eb p (by omega)]
    exact N p hp
theorem PR.of {n d : Nat} {τ μ μ' : MS} (h : PR n d τ μ) (e : μ'.2 = μ.2) : PR n d τ μ' := h.agree (fun k _ _ => nt_of e k) (fun p _ => by unfold gb; rw [e])
theorem PR.hi {n d k : Nat} {v : Int32} {τ μ : MS} (h : PR n d τ μ) (hk : 2130 ≤ k) (hk2 : k < 100000) : PR n d τ (sa μ 0 (nI k) v) := h.agree (fun j h1 h2 => nt_ne (by omega) (by omega) hk2) (fun _ _ => rfl)
theorem PR.nms {n d : Nat} {τ μ : MS} (h : PR n d τ μ) : NMS n 24 τ μ := ⟨h.1.1, h.1.2.2, h.2.2.2.2.2.2.2.2.2.2⟩
theorem NMS.of {n : Nat} {base : Int32} {τ τ' μ μ' : MS} (h : NMS n base τ μ) (e : τ' = τ) (e2 : μ'.2.2.2 = μ.2.2.2) : NMS n base τ' μ' := by
  subst e
  exact ⟨h.1, h.2.1, fun p hp => by unfold gb; rw [e2]; exact h.2.2 p hp⟩
/-- what was told once -/
def TO (σ : MS × MS) (μ : MS) : Prop := ∃ s l : Nat, s ≤ 1 ∧ l ≤ 1 ∧ gi (own σ) 6 = nI s ∧ gi (own σ) 7 = nI l ∧ gi μ 20 = nI (16 * s + 32 * l)
theorem TO.of {σ σ' : MS × MS} {μ μ' : MS} (h : TO σ μ) (h6 : gi (own σ') 6 = gi (own σ) 6) (h7 : gi (own σ') 7 = gi (own σ) 7) (h20 : gi μ' 20 = gi μ 20) : TO σ' μ' := by
  unfold TO at *
  rw [h6, h7, h20]
  exact h
theorem TO.nx {σ σ' : MS × MS} {μ μ' : MS} (h : TO σ μ) (h1 : NXF σ σ') (h2 : AHF μ μ') : TO σ' μ' := h.of (h1.2.1 6 (by decide)) (h1.2.1 7 (by decide)) (h2.2 20 (by decide))
theorem AHF.f {μ μ' : MS} (h : AHF μ μ') (h0 : Z0 μ) : Z0 μ' := ⟨(h.2 18 (by decide)).trans h0.1, (h.2 17 (by decide)).trans h0.2⟩
/-- the slots and names told before stay -/
def LK (μ μ' : MS) : Prop := (∀ j, j < 2000 → nt μ' j = nt μ j) ∧ ∀ j, j < 24 → gb μ' 1 (nI j) = gb μ 1 (nI j)
theorem LK.rf {μ : MS} : LK μ μ := ⟨fun _ _ => rfl, fun _ _ => rfl⟩
theorem LK.tr {μ w u : MS} (h : LK μ w) (h2 : LK w u) : LK μ u := ⟨fun j hj => (h2.1 j hj).trans (h.1 j hj), fun j hj => (h2.2 j hj).trans (h.2 j hj)⟩
theorem LK.e {μ w w' : MS} (h : LK μ w) (e : w'.2 = w.2) : LK μ w' := ⟨fun j hj => (nt_of e j).trans (h.1 j hj), fun j hj => by
  have : gb w' 1 (nI j) = gb w 1 (nI j) := by unfold gb; rw [e]
  exact this.trans (h.2 j hj)⟩
theorem LK.s {μ w : MS} {k : Nat} {v : Int32} (h : LK μ w) (hk : 2000 ≤ k) (hk2 : k < 100000) : LK μ (sa w 0 (nI k) v) := ⟨fun j hj => (nt_ne (by omega) (by omega) hk2).trans (h.1 j hj), h.2⟩
theorem LK.b {μ w : MS} {k : Nat} {v : Int64} (h : LK μ w) (hk : 24 ≤ k) (hk2 : k < 100000) : LK μ (sb w 1 (nI k) v) := ⟨h.1, fun j hj => (gb_sb_ne (nI_toInt (by omega)) (nI_toInt (by omega)) (by omega)).trans (h.2 j hj)⟩
theorem LK.w {μ w w' : MS} {k : Nat} (h : LK μ w) (hk : 2000 ≤ k) (hk2 : k < 100000) (hw : W1 (nI k) w w') : LK μ w' := by
  rcases hw with e | ⟨v, e⟩
  · exact h.e e
  · exact (h.s hk hk2).e e
theorem TK.mm {S A B : Nat} {σ : MS × MS} {μ μ' : MS} (h : TK S A B σ μ) (e : ∀ k, k ∈ [11, 12, 13, 14, 15] → gi μ' k = gi μ k) (e9 : ∀ j, ga μ' 9 j = ga μ 9 j) : TK S A B σ μ' := by
  refine ⟨h.1.of rfl (fun _ => rfl) (e 11 (by decide)) e9, ?_⟩
  rw [e 12 (by decide), e 13 (by decide), e 14 (by decide), e 15 (by decide)]
  exact h.2
theorem TK.tsi {S A B k : Nat} {v : Int32} {σ : MS × MS} {μ : MS} (h : TK S A B σ μ) : TK S A B (tsi σ k v) μ := h.tb rfl
theorem ttb_tsi {k : Nat} {v : Int32} {σ : MS × MS} : ttb (tsi σ k v) = si (ttb σ) k v := rfl
theorem Z0.sa {μ : MS} {k : Nat} {i v : Int32} (h : Z0 μ) : Z0 (sa μ k i v) := h
theorem Z0.sb {μ : MS} {k : Nat} {i : Int32} {v : Int64} (h : Z0 μ) : Z0 (sb μ k i v) := h
theorem TO.sa {σ : MS × MS} {μ : MS} {k : Nat} {i v : Int32} (h : TO σ μ) : TO σ (sa μ k i v) := h
theorem TO.sb {σ : MS × MS} {μ : MS} {k : Nat} {i : Int32} {v : Int64} (h : TO σ μ) : TO σ (sb μ k i v) := h
theorem LK.i {μ : MS} {k : Nat} {v : Int32} : LK μ (si μ k v) := ⟨fun _ _ => rfl, fun _ _ => rfl⟩
theorem nt_sb {μ : MS} {k j : Nat} {i : Int32} {v : Int64} : nt (sb μ k i v) j = nt μ j := rfl
theorem sb_2 {μ μ' : MS} {k : Nat} {i : Int32} {v : Int64} (e : μ'.2 = μ.2) : (sb μ' k i v).2 = (sb μ k i v).2 := by
  unfold sb
  simp only [e]
theorem gi_sa {μ : MS} {k j : Nat} {i v : Int32} : gi (sa μ k i v) j = gi μ j := rfl
theorem gi_sb {μ : MS} {k j : Nat} {i : Int32} {v : Int64} : gi (sb μ k i v) j = gi μ j := rfl
theorem sa_nm {μ : MS} {k : Nat} {i v : Int32} : (sa μ k i v).2.2.2 = μ.2.2.2 := rfl
theorem TO.tsi {k : Nat} {v : Int32} {σ : MS × MS} {μ : MS} (h : TO σ μ) : TO (tsi σ k v) μ := h
/-- a part of a table: the same fault, or the same table -/
def TP (S A : Nat) (μ : MS) (x : (MS × MS) × Bool) (y : MS × Int32) : Prop :=
  (x.2 = true ∧ FT x.1 y.1 ∧ y.2 = 0 ∧ LK μ y.1) ∨
  (x.2 = false ∧ y.2 = 1 ∧ LK μ y.1 ∧ ∃ A' B' n d : Nat, A < A' ∧ TK S A' B' x.1 y.1 ∧ PR n d (ttb x.1) y.1 ∧ Z0 y.1 ∧ TO x.1 y.1)
theorem TP.l {S A : Nat} {μ : MS} {x : MS × MS} {y : MS} {v : Int32} (h : FT x y) (e : v = 0) (k : LK μ y) : TP S A μ (x, true) (y, v) := Or.inl ⟨rfl, h, e, k⟩
theorem TP.r {S A A' B' n d : Nat} {μ : MS} {x : MS × MS} {y : MS} {v : Int32} (e : v = 1) (k : LK μ y) (hA : A < A') (T : TK S A' B' x y) (P : PR n d (ttb x) y) (Z : Z0 y) (O : TO x y) : TP S A μ (x, false) (y, v) := Or.inr ⟨rfl, e, k, A', B', n, d, hA, T, P, Z, O⟩
theorem TP.f {S A : Nat} {μ : MS} {x : MS × MS} {y : MS × Int32} (h : FT x y.1) (e : y.2 = 0) (k : LK μ y.1) : TP S A μ (x, true) y := Or.inl ⟨rfl, h, e, k⟩
/-- one more debt -/
theorem PR.owe {n d a b : Nat} {τ μ : MS} {v : Int32} (h : PR n d τ μ) (ha : a < 6) (hb : b < 6) : PR n d (f_X5_owe τ (nI a) (nI b) v) (sa μ 0 (nI (2092 + 6 * a + b)) v) := by
  have eo : f_X5_owe τ (nI a) (nI b) v = sa τ 12 (nI (6 * a + b)) v := by
    unfold f_X5_owe
    rw [show (6 : Int32) * nI a = nI (6 * a) from nI_mul 6 a, nI_add]
  rw [eo]
  obtain ⟨⟨a1, a2, a3⟩, b1, ⟨c1, c2, c3⟩, ⟨d1, d2, ⟨d3, d4⟩, d5, d6, d7⟩, ⟨f1, f2⟩, P, Q, Z, DD, O, N⟩ := h
  have E : ∀ k, k < 2092 → nt (sa μ 0 (nI (2092 + 6 * a + b)) v) k = nt μ k := fun k hk => nt_ne (by omega) (by omega) (by omega)
  have K : ∀ k, k ≠ 12 → ∀ x, ga (sa τ 12 (nI (6 * a + b)) v) k x = ga τ k x := fun k hk x => ga_sa_k hk
  refine ⟨⟨a1, ?_, a3⟩, ?_, ⟨c1, ?_, c3⟩, ⟨?_, ?_, ⟨d3, ?_⟩, d5, ?_, ?_⟩, ⟨?_, ?_⟩, ?_, ?_, ?_, ?_, ?_, N⟩
  · rw [E _ (by omega)]; exact a2
  · rw [E _ (by omega)]; exact b1
  · rw [E _ (by omega)]; exact c2
  · rw [E _ (by omega)]; exact d1
  · rw [E _ (by omega)]; exact d2
  · rw [E _ (by omega)]; exact d4
  · rw [E _ (by omega)]; exact d6
  · rw [E _ (by omega)]; exact d7
  · rw [E _ (by omega)]; exact (gu_same (τ := τ) rfl (fun x => K 26 (by decide) x)).trans f1
  · rw [E _ (by omega)]; exact f2
  · intro p hp
    rw [E _ (by omega), E _ (by omega), E _ (by omega), E _ (by omega), E _ (by omega), K 21 (by decide), K 22 (by decide), K 23 (by decide), K 24 (by decide), K 25 (by decide)]
    exact P p hp
  · intro p hp
    rw [E _ (by omega), E _ (by omega), E _ (by omega), K 11 (by decide), K 13 (by decide)]
    exact Q p hp
  · intro p h1 hp
    rw [E _ (by omega), E _ (by omega)]
    exact Z p h1 hp
  · intro j hj
    rw [E _ (by omega), E _ (by omega), K 9 (by decide), K 10 (by decide)]
    exact DD j hj
  · intro x y hx hy
    by_cases z : x = a ∧ y = b
    · rw [z.1, z.2, nt_eq rfl, ga_sa_eq]
    · rw [nt_ne (by omega) (by omega) (by omega), ga_sa_ne (nI_toInt (by omega)) (nI_toInt (by omega)) (by omega)]
      exact O x y hx hy
/-- one of the first numbers: couples, split, law -/
theorem PR.num {n d : Nat} {τ μ : MS} {v : Int32} {k : Nat} (h : PR n d τ μ) (hk : k = 2 ∨ k = 4 ∨ k = 5) : PR n d (si τ k v) (sa μ 0 (nI (1999 + k)) v) := by
  obtain ⟨⟨a1, a2, a3⟩, b1, ⟨c1, c2, c3⟩, ⟨d1, d2, ⟨d3, d4⟩, d5, d6, d7⟩, ⟨f1, f2⟩, P, Q, Z, DD, O, N⟩ := h
  have E : ∀ j, ¬ j = 1999 + k → j < 3000 → nt (sa μ 0 (nI (1999 + k)) v) j = nt μ j := fun j hj h3 => nt_ne hj (by omega) (by omega)
  have G : ∀ j, ¬ j = k → gi (si τ k v) j = gi τ j := fun j hj => by rw [gi_si, if_neg hj]
  have GK : gi (si τ k v) k = v := by rw [gi_si, if_pos rfl]
  refine ⟨⟨?_, ?_, a3⟩, ?_, ⟨?_, ?_, c3⟩, ⟨?_, ?_, ⟨?_, ?_⟩, ?_, ?_, ?_⟩, ⟨?_, ?_⟩, ?_, ?_, ?_, ?_, ?_, N⟩
  · rw [G 1 (by omega)]; exact a1
  · rw [E _ (by omega) (by omega)]; exact a2
  · by_cases z : k = 2
    · subst z; rw [GK, nt_eq (by omega)]
    · rw [G 2 (by omega), E _ (by omega) (by omega)]; exact b1
  · rw [G 3 (by omega)]; exact c1
  · rw [E _ (by omega) (by omega)]; exact c2
  · by_cases z : k = 4
    · subst z; rw [GK, nt_eq (by omega)]
    · rw [G 4 (by omega), E _ (by omega) (by omega)]; exact d1
  · by_cases z : k = 5
    · subst z; rw [GK, nt_eq (by omega)]
    · rw [G 5 (by omega), E _ (by omega) (by omega)]; exact d2
  · rw [G 6 (by omega)]; exact d3
  · rw [E _ (by omega) (by omega)]; exact d4
  · rw [G 7 (by omega)]; exact d5
  · rw [E _ (by omega) (by omega)]; exact d6
  · rw [E _ (by omega) (by omega)]; exact d7
  · rw [E _ (by omega) (by omega), gu_same (τ := τ) (G 1 (by omega)) (fun _ => rfl)]; exact f1
  · rw [E _ (by omega) (by omega)]; exact f2
  · intro p hp
    rw [E _ (by omega) (by omega), E _ (by omega) (by omega), E _ (by omega) (by omega), E _ (by omega) (by omega), E _ (by omega) (by omega)]
    exact P p hp
  · intro p hp
    rw [E _ (by omega) (by omega), E _ (by omega) (by omega), E _ (by omega) (by omega)]
    exact Q p hp
  · intro p h1 hp
    rw [E _ (by omega) (by omega), E _ (by omega) (by omega)]
    exact Z p h1 hp
  · intro j hj
    rw [E _ (by omega) (by omega), E _ (by omega) (by omega)]
    exact DD j hj
  · intro x y hx hy
    rw [E _ (by omega) (by omega)]
    exact O x y hx hy
/-- a couple's mates -/
theorem PR.mates {n d a b : Nat} {τ τ' μ : MS} (h : PR n d τ μ) (ha : a < n) (hb : b < n) (hn : ¬ a = b) (hg : ∀ k, gi τ' k = gi τ k) (hK : ∀ k, ¬ k = 25 → ∀ x, ga τ' k x = ga τ k x) (h25 : ∀ p, p < n → ga τ' 25 (nI p) = if p = b then nI a else if p = a then nI b else ga τ 25 (nI p)) (hB : ∀ x, gb τ' 20 x = gb τ 20 x) : PR n d τ' (sa (sa μ 0 (nI (2012 + 8 * a + 4)) (nI b)) 0 (nI (2012 + 8 * b + 4)) (nI a)) := by
  obtain ⟨⟨a1, a2, a3⟩, b1, ⟨c1, c2, c3⟩, ⟨d1, d2, ⟨d3, d4⟩, d5, d6, d7⟩, ⟨f1, f2⟩, P, Q, Z, DD, O, N⟩ := h
  have E : ∀ j, (¬ j = 2012 + 8 * a + 4) → (¬ j = 2012 + 8 * b + 4) → j < 3000 → nt (sa (sa μ 0 (nI (2012 + 8 * a + 4)) (nI b)) 0 (nI (2012 + 8 * b + 4)) (nI a)) j = nt μ j := fun j h1 h2 h3 => (nt_ne h2 (by omega) (by omega)).trans (nt_ne h1 (by omega) (by omega))
  refine ⟨⟨?_, ?_, a3⟩, ?_, ⟨?_, ?_, c3⟩, ⟨?_, ?_, ⟨?_, ?_⟩, ?_, ?_, ?_⟩, ⟨?_, ?_⟩, ?_, ?_, ?_, ?_, ?_, ?_⟩
  · rw [hg]; exact a1
  · rw [E _ (by omega) (by omega) (by omega)]; exact a2
  · rw [hg, E _ (by omega) (by omega) (by omega)]; exact b1
  · rw [hg]; exact c1
  · rw [E _ (by omega) (by omega) (by omega)]; exact c2
  · rw [hg, E _ (by omega) (by omega) (by omega)]; exact d1
  · rw [hg, E _ (by omega) (by omega) (by omega)]; exact d2
  · rw [hg]; exact d3
  · rw [E _ (by omega) (by omega) (by omega)]; exact d4
  · rw [hg]; exact d5
  · rw [E _ (by omega) (by omega) (by omega)]; exact d6
  · rw [E _ (by omega) (by omega) (by omega)]; exact d7
  · rw [E _ (by omega) (by omega) (by omega), gu_same (τ := τ) (hg 1) (hK 26 (by omega))]; exact f1
  · rw [E _ (by omega) (by omega) (by omega)]; exact f2
  · intro p hp
    rw [E (2012 + 8 * p) (by omega) (by omega) (by omega), E (2012 + 8 * p + 1) (by omega) (by omega) (by omega), E (2012 + 8 * p + 2) (by omega) (by omega) (by omega), E (2012 + 8 * p + 3) (by omega) (by omega) (by omega), hK 21 (by omega), hK 22 (by omega), hK 23 (by omega), hK 24 (by omega), h25 p hp]
    obtain ⟨q1, q2, q3, q4, q5, q6⟩ := P p hp
    refine ⟨q1, q2, q3, q4, ?_⟩
    by_cases z : p = b
    · subst z
      rw [if_pos rfl, nt_eq rfl]
      exact ⟨rfl, Or.inr (nI_pos (by omega))⟩
    · rw [if_neg z, nt_ne (by omega) (by omega) (by omega)]
      by_cases z1 : p = a
      · subst z1
        rw [if_pos rfl, nt_eq rfl]
        exact ⟨rfl, Or.inr (nI_pos (by omega))⟩
      · rw [if_neg z1, nt_ne (by omega) (by omega) (by omega)]
        exact ⟨q5, q6⟩
  · intro p hp
    rw [E _ (by omega) (by omega) (by omega), E _ (by omega) (by omega) (by omega), E _ (by omega) (by omega) (by omega), hK 11 (by omega), hK 13 (by omega)]
    exact Q p hp
  · intro p h1 hp
    rw [E _ (by omega) (by omega) (by omega), E _ (by omega) (by omega) (by omega)]
    exact Z p h1 hp
  · intro j hj
    rw [E _ (by omega) (by omega) (by omega), E _ (by omega) (by omega) (by omega), hK 9 (by omega), hK 10 (by omega)]
    exact DD j hj
  · intro x y hx hy
    rw [E _ (by omega) (by omega) (by omega), hK 12 (by omega)]
    exact O x y hx hy
  · intro p hp
    rw [hB]
    exact N p hp
/-- one more dish -/
theorem PR.dish {n d : Nat} {τ μ : MS} {v w : Int32} {u : OU} (h : PR n d τ μ) (hd : d < 16) (hu : ordP τ d v w u) : PR n (d + 1) (ordT τ u) (sa (sa (sa μ 0 (nI (2060 + 2 * d)) v) 0 (nI (2060 + 2 * d + 1)) w) 0 (nI 2002) (nI (d + 1))) := by
  obtain ⟨⟨a1, a2, a3⟩, b1, ⟨c1, c2, c3⟩, ⟨d1, d2, ⟨d3, d4⟩, d5, d6, d7⟩, ⟨f1, f2⟩, P, Q, Z, DD, O, N⟩ := h
  obtain ⟨-, -, ⟨u1, u2⟩, u3, u4⟩ := hu
  have E : ∀ j, (¬ j = 2060 + 2 * d) → (¬ j = 2060 + 2 * d + 1) → (¬ j = 2002) → j < 3000 → nt (sa (sa (sa μ 0 (nI (2060 + 2 * d)) v) 0 (nI (2060 + 2 * d + 1)) w) 0 (nI 2002) (nI (d + 1))) j = nt μ j := fun j h1 h2 h3 h4 => (nt_ne h3 (by omega) (by omega)).trans ((nt_ne h2 (by omega) (by omega)).trans (nt_ne h1 (by omega) (by omega)))
  have G : ∀ j, ¬ j = 3 → gi (ordT τ u) j = gi τ j := fun j hj => by
    show upd τ.1 3 (τ.1 3 + 1) j = τ.1 j
    simp [upd, hj]
  have K : ∀ k, ¬ k = 9 → ¬ k = 10 → ∀ x, ga (ordT τ u) k x = ga τ k x := fun k h1 h2 x => by
    show (if k = 9 then u.2.2.2.1 else if k = 10 then u.2.2.2.2 else τ.2.2.1 k) x.toNatClampNeg = τ.2.2.1 k x.toNatClampNeg
    rw [if_neg h1, if_neg h2]
  refine ⟨⟨?_, ?_, a3⟩, ?_, ⟨?_, ?_, by omega⟩, ⟨?_, ?_, ⟨?_, ?_⟩, ?_, ?_, ?_⟩, ⟨?_, ?_⟩, ?_, ?_, ?_, ?_, ?_, N⟩
  · rw [G 1 (by omega)]; exact a1
  · rw [E _ (by omega) (by omega) (by omega) (by omega)]; exact a2
  · rw [G 2 (by omega), E _ (by omega) (by omega) (by omega) (by omega)]; exact b1
  · have e : gi (ordT τ u) 3 = gi τ 3 + 1 := rfl
    rw [e, c1, nI_1]
  · exact nt_eq rfl
  · rw [G 4 (by omega), E _ (by omega) (by omega) (by omega) (by omega)]; exact d1
  · rw [G 5 (by omega), E _ (by omega) (by omega) (by omega) (by omega)]; exact d2
  · rw [G 6 (by omega)]; exact d3
  · rw [E _ (by omega) (by omega) (by omega) (by omega)]; exact d4
  · rw [G 7 (by omega)]; exact d5
  · rw [E _ (by omega) (by omega) (by omega) (by omega)]; exact d6
  · rw [E _ (by omega) (by omega) (by omega) (by omega)]; exact d7
  · rw [E _ (by omega) (by omega) (by omega) (by omega), gu_same (τ := τ) (G 1 (by omega)) (K 26 (by omega) (by omega))]; exact f1
  · rw [E _ (by omega) (by omega) (by omega) (by omega)]; exact f2
  · intro p hp
    rw [E (2012 + 8 * p) (by omega) (by omega) (by omega) (by omega), E (2012 + 8 * p + 1) (by omega) (by omega) (by omega) (by omega), E (2012 + 8 * p + 2) (by omega) (by omega) (by omega) (by omega), E (2012 + 8 * p + 3) (by omega) (by omega) (by omega) (by omega), E (2012 + 8 * p + 4) (by omega) (by omega) (by omega) (by omega), K 21 (by omega) (by omega), K 22 (by omega) (by omega), K 23 (by omega) (by omega), K 24 (by omega) (by omega), K 25 (by omega) (by omega)]
    exact P p hp
  · intro p hp
    rw [E (2012 + 8 * p + 5) (by omega) (by omega) (by omega) (by omega), E (2012 + 8 * p + 6) (by omega) (by omega) (by omega) (by omega), E (2012 + 8 * p + 7) (by omega) (by omega) (by omega) (by omega), K 11 (by omega) (by omega), K 13 (by omega) (by omega)]
    exact Q p hp
  · intro p h1 hp
    rw [E (2012 + 8 * p) (by omega) (by omega) (by omega) (by omega), E (2012 + 8 * p + 2) (by omega) (by omega) (by omega) (by omega)]
    exact Z p h1 hp
  · intro j hj
    have e9 : ga (ordT τ u) 9 (nI j) = u.2.2.2.1 j := by
      show u.2.2.2.1 (nI j).toNatClampNeg = _
      rw [nI_clamp (by omega)]
    have e10 : ga (ordT τ u) 10 (nI j) = u.2.2.2.2 j := by
      show u.2.2.2.2 (nI j).toNatClampNeg = _
      rw [nI_clamp (by omega)]
    rw [e9, e10]
    by_cases z : j = d
    · subst z
      rw [u2, u4, nt_ne (by omega) (by omega) (by omega), nt_ne (by omega) (by omega) (by omega), nt_eq rfl, nt_ne (by omega) (by omega) (by omega), nt_eq rfl]
      exact ⟨rfl, rfl⟩
    · rw [E (2060 + 2 * j) (by omega) (by omega) (by omega) (by omega), E (2060 + 2 * j + 1) (by omega) (by omega) (by omega) (by omega), u1 j (by omega), u3 j (by omega)]
      have q := DD j (by omega)
      unfold ga at q
      rw [nI_clamp (by omega)] at q
      exact q
  · intro x y hx hy
    rw [E _ (by omega) (by omega) (by omega) (by omega), K 12 (by omega) (by omega)]
    exact O x y hx hy
/-- one more guest's bit -/
theorem gs_L {τ τ' : MS} {n : Nat} {w : Int32} (hn : n < 6) (h1 : gi τ 1 = nI n) (h1' : gi τ' 1 = nI (n + 1)) (h26 : ∀ p, p < n → ga τ' 26 (nI p) = ga τ 26 (nI p)) (hw : ga τ' 26 (nI n) = w) : ∀ (k p : Nat) (a : Int32), p ≤ n → n + 1 < k + p → (f_X5_guests_L4 τ' k a (nI p)).1 = (f_X5_guests_L4 τ k a (nI p)).1 ||| (if w = 0 then 0 else (1 : Int32) <<< (nI n &&& 31)) := by
  intro k
  induction k with
  | zero => intro p a h2 h3; omega
  | succ k ih =>
    intro p a h2 h3
    rw [f_X5_guests_L4, f_X5_guests_L4, h1, h1', if_neg (nI_ge (by omega) (by omega))]
    dsimp only
    by_cases c : p = n
    · subst c
      rw [if_pos (Int32.le_refl _), hw, nI_1]
      obtain ⟨k', rfl⟩ : ∃ k', k = k' + 1 := ⟨k - 1, by omega⟩
      rw [f_X5_guests_L4, h1', if_pos (Int32.le_refl _)]
    · rw [if_neg (nI_ge (by omega) (by omega)), h26 p (by omega), nI_1]
      exact ih (p + 1) _ (by omega) (by omega)
theorem in_bit : ∀ n, n < 6 → nI (2 ^ n - 1) ||| ((1 : Int32) <<< (nI n &&& 31)) = nI (2 ^ (n + 1) - 1) := by decide +kernel
theorem in_all : ∀ n, n ≤ 6 → ((1 : Int32) <<< (nI n &&& 31)) - 1 = nI (2 ^ n - 1) := by decide +kernel
/-- one more person -/
theorem PR.psn {n d : Nat} {τ τ' μ μ' : MS} {nm nm' : Int64} {i q m v w : Int32} (h : PR n d τ μ) (hn : n < 6) (hNM : NMr nm nm') (hgi : ∀ k, gi τ' k = if k = 1 then nI (n + 1) else gi τ k) (hK : ∀ k, k ∉ [21, 22, 23, 24, 25, 26] → ∀ x, ga τ' k x = ga τ k x)
    (hA : ∀ p, ga τ' 21 (nI p) = upd (τ.2.2.1 21) n i (nI p).toNatClampNeg ∧ ga τ' 22 (nI p) = upd (τ.2.2.1 22) n q (nI p).toNatClampNeg ∧ ga τ' 23 (nI p) = upd (τ.2.2.1 23) n m (nI p).toNatClampNeg ∧ ga τ' 24 (nI p) = upd (τ.2.2.1 24) n v (nI p).toNatClampNeg ∧ ga τ' 25 (nI p) = upd (τ.2.2.1 25) n (-1) (nI p).toNatClampNeg ∧ ga τ' 26 (nI p) = upd (τ.2.2.1 26) n w (nI p).toNatClampNeg)
    (hB : ∀ p, gb τ' 20 (nI p) = vp_updL (τ.2.2.2 20) n nm (nI p).toNatClampNeg)
    (hF : ∀ k, 2000 ≤ k → k < 2130 → nt μ' k = if k = 2000 then nI (n + 1) else if k = 2008 then nI (2 ^ n - 1) ||| ((1 : Int32) <<< (nI n &&& 31)) else if k = 2007 then nt μ 2007 ||| (if w = 0 then 0 else (1 : Int32) <<< (nI n &&& 31)) else if k = 2012 + 8 * n + 3 then v else if k = 2012 + 8 * n + 2 then m else if k = 2012 + 8 * n + 1 then q else if k = 2012 + 8 * n then i else if k = 2012 + 8 * n + 4 then -1 else nt μ k)
    (hN : ∀ p, p < 6 → gb μ' 1 (24 + nI p) = if p = n then nm' else gb μ 1 (24 + nI p)) : PR (n + 1) d τ' μ' := by
  obtain ⟨⟨a1, a2, a3⟩, b1, ⟨c1, c2, c3⟩, ⟨d1, d2, ⟨d3, d4⟩, d5, d6, d7⟩, ⟨f1, f2⟩, P, Q, Z, DD, O, N⟩ := h
  have E : ∀ j, 2000 ≤ j → j < 2130 → (¬ j = 2000) → (¬ j = 2008) → (¬ j = 2007) → (j < 2012 + 8 * n ∨ 2012 + 8 * n + 5 ≤ j) → nt μ' j = nt μ j := fun j g1 g2 g3 g4 g5 g6 => by
    rw [hF j g1 g2, if_neg g3, if_neg g4, if_neg g5, if_neg (by omega), if_neg (by omega), if_neg (by omega), if_neg (by omega), if_neg (by omega)]
  have U : ∀ (f : Nat → Int32) (x : Int32) (p : Nat), ¬ p = n → p < 1000 → upd f n x (nI p).toNatClampNeg = f (nI p).toNatClampNeg := fun f x p hp h9 => by
    rw [nI_clamp (by omega)]
    simp [upd, hp]
  have V : ∀ (f : Nat → Int32) (x : Int32), upd f n x (nI n).toNatClampNeg = x := fun f x => by
    rw [nI_clamp (by omega)]
    simp [upd]
  refine ⟨⟨?_, ?_, by omega⟩, ?_, ⟨?_, ?_, c3⟩, ⟨?_, ?_, ⟨?_, ?_⟩, ?_, ?_, ?_⟩, ⟨?_, ?_⟩, ?_, ?_, ?_, ?_, ?_, ?_⟩
  · rw [hgi, if_pos rfl]
  · rw [hF _ (by omega) (by omega), if_pos rfl]
  · rw [hgi, if_neg (by omega), E _ (by omega) (by omega) (by omega) (by omega) (by omega) (by omega)]; exact b1
  · rw [hgi, if_neg (by omega)]; exact c1
  · rw [E _ (by omega) (by omega) (by omega) (by omega) (by omega) (by omega)]; exact c2
  · rw [hgi, if_neg (by omega), E _ (by omega) (by omega) (by omega) (by omega) (by omega) (by omega)]; exact d1
  · rw [hgi, if_neg (by omega), E _ (by omega) (by omega) (by omega) (by omega) (by omega) (by omega)]; exact d2
  · rw [hgi, if_neg (by omega)]; exact d3
  · rw [E _ (by omega) (by omega) (by omega) (by omega) (by omega) (by omega)]; exact d4
  · rw [hgi, if_neg (by omega)]; exact d5
  · rw [E _ (by omega) (by omega) (by omega) (by omega) (by omega) (by omega)]; exact d6
  · rw [E _ (by omega) (by omega) (by omega) (by omega) (by omega) (by omega)]; exact d7
  · rw [hF _ (by omega) (by omega), if_neg (by omega), if_neg (by omega), if_pos rfl, ← f1]
    unfold f_X5_guests
    exact gs_L hn a1 (by rw [hgi, if_pos rfl]) (fun p hp => by rw [(hA p).2.2.2.2.2, U _ _ p (by omega) (by omega)]; rfl) (by rw [(hA n).2.2.2.2.2, V]) 7 0 0 (by omega) (by omega)
  · rw [hF _ (by omega) (by omega), if_neg (by omega), if_pos rfl]
    exact in_bit n hn
  · intro p hp
    obtain ⟨h1, h2, h3, h4, h5, -⟩ := hA p
    by_cases z : p = n
    · subst z
      rw [h1, h2, h3, h4, h5, V, V, V, V, V, hF (2012 + 8 * p) (by omega) (by omega), hF (2012 + 8 * p + 1) (by omega) (by omega), hF (2012 + 8 * p + 2) (by omega) (by omega), hF (2012 + 8 * p + 3) (by omega) (by omega), hF (2012 + 8 * p + 4) (by omega) (by omega)]
      refine ⟨?_, ?_, ?_, ?_, ?_, Or.inl ?_⟩
      · rw [if_neg (by omega), if_neg (by omega), if_neg (by omega), if_neg (by omega), if_neg (by omega), if_neg (by omega), if_pos rfl]
      · rw [if_neg (by omega), if_neg (by omega), if_neg (by omega), if_neg (by omega), if_neg (by omega), if_pos rfl]
      · rw [if_neg (by omega), if_neg (by omega), if_neg (by omega), if_neg (by omega), if_pos rfl]
      · rw [if_neg (by omega), if_neg (by omega), if_neg (by omega), if_pos rfl]
      · rw [if_neg (by omega), if_neg (by omega), if_neg (by omega), if_neg (by omega), if_neg (by omega), if_neg (by omega), if_neg (by omega), if_pos rfl]
      · rw [if_neg (by omega), if_neg (by omega), if_neg (by omega), if_neg (by omega), if_neg (by omega), if_neg (by omega), if_neg (by omega), if_pos rfl]
    · rw [h1, h2, h3, h4, h5, U _ _ p z (by omega), U _ _ p z (by omega), U _ _ p z (by omega), U _ _ p z (by omega), U _ _ p z (by omega), E (2012 + 8 * p) (by omega) (by omega) (by omega) (by omega) (by omega) (by omega), E (2012 + 8 * p + 1) (by omega) (by omega) (by omega) (by omega) (by omega) (by omega), E (2012 + 8 * p + 2) (by omega) (by omega) (by omega) (by omega) (by omega) (by omega), E (2012 + 8 * p + 3) (by omega) (by omega) (by omega) (by omega) (by omega) (by omega), E (2012 + 8 * p + 4) (by omega) (by omega) (by omega) (by omega) (by omega) (by omega)]
      exact P p (by omega)
  · intro p hp
    rw [E (2012 + 8 * p + 5) (by omega) (by omega) (by omega) (by omega) (by omega) (by omega), E (2012 + 8 * p + 6) (by omega) (by omega) (by omega) (by omega) (by omega) (by omega), E (2012 + 8 * p + 7) (by omega) (by omega) (by omega) (by omega) (by omega) (by omega), hK 11 (by decide), hK 13 (by decide)]
    exact Q p hp
  · intro p h1 hp
    rw [E (2012 + 8 * p) (by omega) (by omega) (by omega) (by omega) (by omega) (by omega), E (2012 + 8 * p + 2) (by omega) (by omega) (by omega) (by omega) (by omega) (by omega)]
    exact Z p (by omega) hp
  · intro j hj
    rw [E (2060 + 2 * j) (by omega) (by omega) (by omega) (by omega) (by omega) (by omega), E (2060 + 2 * j + 1) (by omega) (by omega) (by omega) (by omega) (by omega) (by omega), hK 9 (by decide), hK 10 (by decide)]
    exact DD j hj
  · intro x y hx hy
    rw [E (2092 + 6 * x + y) (by omega) (by omega) (by omega) (by omega) (by omega) (by omega), hK 12 (by decide)]
    exact O x y hx hy
  · intro p hp
    rw [hB, hN p (by omega)]
    by_cases z : p = n
    · subst z
      rw [if_pos rfl, nI_clamp (by omega)]
      simp only [vp_updL, if_true]
      exact hNM
    · rw [if_neg z]
      have e : vp_updL (τ.2.2.2 20) n nm (nI p).toNatClampNeg = gb τ 20 (nI p) := by
        rw [nI_clamp (by omega)]
        unfold gb
        rw [nI_clamp (by omega)]
        simp [vp_updL, z]
      rw [e]
      exact N p (by omega)
