/-! CALL BY CALL: second: sets of dishes that are just an amount; gone through by depth, and one after another -/
set_option maxRecDepth 100000
-- plain lists
/-- the sum of a set's weights from k on -/
def sm (w : Nat → Nat) : Nat → Nat → Nat → Nat
  | 0, _, _ => 0
  | n + 1, k, V => (if V % 2 = 1 then w k else 0) + sm w n (k + 1) (V / 2)
/-- the sets found by depth -/
def GL_ (w : Nat → Nat) : Nat → Nat → Nat → Nat → List Nat
  | 0, _, a, S => if a = 0 then [S] else []
  | n + 1, k, a, S => if a = 0 then [S] else (if a < w k then [] else GL_ w n (k + 1) (a - w k) (S + 2 ^ k)) ++ GL_ w n (k + 1) a S
theorem range2 : ∀ m : Nat, List.Perm (List.range (2 * m)) ((List.range m).map (fun v => 2 * v) ++ (List.range m).map (fun v => 2 * v + 1)) := by
  intro m
  induction m with
  | zero => exact List.Perm.refl _
  | succ m ih =>
    rw [show 2 * (m + 1) = (2 * m + 1) + 1 by omega, List.range_succ, List.range_succ, List.range_succ, List.map_append, List.map_append]
    show List.Perm ((List.range (2 * m) ++ [2 * m]) ++ [2 * m + 1]) (((List.range m).map (fun v => 2 * v) ++ [2 * m]) ++ ((List.range m).map (fun v => 2 * v + 1) ++ [2 * m + 1]))
    rw [← List.append_assoc]
    refine List.Perm.append_right _ ?_
    rw [List.append_assoc]
    refine (List.Perm.append_right _ ih).trans ?_
    rw [List.append_assoc]
    exact List.Perm.append_left _ List.perm_append_comm
theorem GL_perm (w : Nat → Nat) : ∀ (n k a S : Nat), (∀ j, k ≤ j → j < k + n → 1 ≤ w j) → List.Perm (GL_ w n k a S) (((List.range (2 ^ n)).filter (fun V => decide (sm w n k V = a))).map (fun V => S + 2 ^ k * V)) := by
  intro n
  induction n with
  | zero =>
    intro k a S _
    rw [GL_]
    by_cases h : a = 0
    · subst h
      rw [if_pos rfl]
      show List.Perm [S] [S + 2 ^ k * 0]
      rw [Nat.mul_zero, Nat.add_zero]
    · rw [if_neg h]
      have : (List.range (2 ^ 0)).filter (fun V => decide (sm w 0 k V = a)) = [] := by
        rw [List.filter_eq_nil_iff]
        intro V _ q
        exact h (of_decide_eq_true q).symm
      rw [this]
      exact List.Perm.refl _
  | succ n ih =>
    intro k a S hw
    have hw1 : ∀ j, k + 1 ≤ j → j < k + 1 + n → 1 ≤ w j := fun j p q => hw j (by omega) (by omega)
    have hk := hw k (Nat.le_refl _) (by omega)
    have e1 : ((List.range (2 ^ n)).map (fun v => 2 * v)).filter (fun V => decide (sm w (n + 1) k V = a)) = ((List.range (2 ^ n)).filter (fun V => decide (sm w n (k + 1) V = a))).map (fun v => 2 * v) := by
      rw [List.filter_map]
      congr 1
      refine List.filter_congr (fun V _ => ?_)
      show decide (sm w (n + 1) k (2 * V) = a) = _
      rw [sm, if_neg (by omega), Nat.zero_add, Nat.mul_div_cancel_left V (by decide)]
    have e2 : ((List.range (2 ^ n)).map (fun v => 2 * v + 1)).filter (fun V => decide (sm w (n + 1) k V = a)) = ((List.range (2 ^ n)).filter (fun V => decide (w k + sm w n (k + 1) V = a))).map (fun v => 2 * v + 1) := by
      rw [List.filter_map]
      congr 1
      refine List.filter_congr (fun V _ => ?_)
      show decide (sm w (n + 1) k (2 * V + 1) = a) = _
      rw [sm, if_pos (by omega), show (2 * V + 1) / 2 = V by omega]
    have P := ((range2 (2 ^ n)).filter (fun V => decide (sm w (n + 1) k V = a))).map (fun V => S + 2 ^ k * V)
    rw [show 2 * 2 ^ n = 2 ^ (n + 1) by rw [Nat.pow_succ]; omega, List.filter_append, e1, e2, List.map_append, List.map_map, List.map_map] at P
    refine List.Perm.trans ?_ P.symm
    have i1 := ih (k + 1) a S hw1
    have m1 : ((List.range (2 ^ n)).filter (fun V => decide (sm w n (k + 1) V = a))).map ((fun V => S + 2 ^ k * V) ∘ (fun v => 2 * v)) = ((List.range (2 ^ n)).filter (fun V => decide (sm w n (k + 1) V = a))).map (fun V => S + 2 ^ (k + 1) * V) := by
      refine List.map_congr_left (fun V _ => ?_)
      show S + 2 ^ k * (2 * V) = S + 2 ^ (k + 1) * V
      rw [Nat.pow_succ, Nat.mul_assoc]
    rw [m1]
    rw [GL_]
    by_cases h : a = 0
    · subst h
      rw [if_pos rfl]
      have n2 : (List.range (2 ^ n)).filter (fun V => decide (w k + sm w n (k + 1) V = 0)) = [] := by
        rw [List.filter_eq_nil_iff]
        intro V _ q
        have := of_decide_eq_true q
        omega
      rw [n2, List.map_nil, List.append_nil]
      have : GL_ w n (k + 1) 0 S = [S] := by cases n <;> rw [GL_, if_pos rfl]
      rw [this] at i1
      exact i1
    · rw [if_neg h]
      by_cases c : a < w k
      · rw [if_pos c, List.nil_append]
        have n2 : (List.range (2 ^ n)).filter (fun V => decide (w k + sm w n (k + 1) V = a)) = [] := by
          rw [List.filter_eq_nil_iff]
          intro V _ q
          have := of_decide_eq_true q
          omega
        rw [n2, List.map_nil, List.append_nil]
        exact i1
      · rw [if_neg c]
        have i2 := ih (k + 1) (a - w k) (S + 2 ^ k) hw1
        have f2 : (List.range (2 ^ n)).filter (fun V => decide (w k + sm w n (k + 1) V = a)) = (List.range (2 ^ n)).filter (fun V => decide (sm w n (k + 1) V = a - w k)) := by
          refine List.filter_congr (fun V _ => ?_)
          exact decide_eq_decide.mpr ⟨fun q => by omega, fun q => by omega⟩
        have m2 : ((List.range (2 ^ n)).filter (fun V => decide (sm w n (k + 1) V = a - w k))).map ((fun V => S + 2 ^ k * V) ∘ (fun v => 2 * v + 1)) = ((List.range (2 ^ n)).filter (fun V => decide (sm w n (k + 1) V = a - w k))).map (fun V => (S + 2 ^ k) + 2 ^ (k + 1) * V) := by
          refine List.map_congr_left (fun V _ => ?_)
          show S + 2 ^ k * (2 * V + 1) = (S + 2 ^ k) + 2 ^ (k + 1) * V
          rw [Nat.pow_succ, Nat.mul_add, Nat.mul_one, Nat.mul_assoc]
          omega
        rw [f2, m2]
        exact List.perm_append_comm.trans (List.Perm.append i1 i2)
-- the fewest, the least of these
def kyB (n : Nat) : Int := (f_X6_bits (nI n)).toInt
def ltB (a b : Nat) : Prop := kyB a < kyB b ∨ (kyB a = kyB b ∧ a < b)
def fB (z : Nat × Option Nat) (S : Nat) : Nat × Option Nat := (z.1 + 1, some (match z.2 with
  | none => S
  | some b => if kyB S < kyB b ∨ (kyB S = kyB b ∧ S < b) then S else b))
theorem fB_comm (z : Nat × Option Nat) (S T : Nat) : fB (fB z S) T = fB (fB z T) S := by
  obtain ⟨c, m⟩ := z
  cases m with
  | none =>
    simp only [fB]
    congr 2
    split <;> split <;> omega
  | some b =>
    simp only [fB]
    congr 2
    repeat' split
    all_goals omega
theorem fB_len : ∀ (L : List Nat) (z : Nat × Option Nat), (L.foldl fB z).1 = z.1 + L.length := by
  intro L
  induction L with
  | nil => intro z; rfl
  | cons x L ih => intro z; rw [List.foldl_cons, ih, List.length_cons]; show z.1 + 1 + _ = _; omega
theorem and_63 (x : Int32) : 0 ≤ (x &&& 63).toInt ∧ (x &&& 63).toInt ≤ 63 := by
  obtain ⟨j, hj, e⟩ := pk_andE x (m := 63) 6 rfl
  rw [e, nI_toInt (by omega)]
  omega
theorem bc_63 (x : Int32) : 0 ≤ (f_J11_bitCount x).toInt ∧ (f_J11_bitCount x).toInt ≤ 63 := and_63 _
theorem ky_rng {n : Nat} (h : n < 65536) : 0 ≤ kyB n ∧ kyB n ≤ 63 := by
  unfold kyB
  rw [← bcb h]
  exact bc_63 _
theorem nI_or (a b : Nat) : nI a ||| nI b = nI (a ||| b) := by
  apply Int32.toBitVec_inj.1
  show BitVec.ofNat 32 a ||| BitVec.ofNat 32 b = BitVec.ofNat 32 (a ||| b)
  apply BitVec.eq_of_getLsbD_eq
  intro i hi
  simp [hi]
theorem shl_16 : ∀ k, k < 16 → ((1 : Int32) <<< (nI k &&& 31)) = nI (2 ^ k) := by decide +kernel
theorem or_add {S k : Nat} (h : S < 2 ^ k) (hk : k < 16) : nI S ||| ((1 : Int32) <<< (nI k &&& 31)) = nI (S + 2 ^ k) := by
  rw [shl_16 k hk, nI_or]
  have e := Nat.two_pow_add_eq_or_of_lt h 1
  rw [Nat.mul_one] at e
  rw [Nat.or_comm, ← e, Nat.add_comm]
/-- what a search leaves alone -/
def Sm3 (σ u : MS × MS) : Prop := ttb u = ttb σ ∧ (∀ k, k ≠ 13 → k ≠ 14 → k ≠ 15 → gi (own u) k = gi (own σ) k) ∧ (∀ k, gl (own u) k = gl (own σ) k) ∧ ∀ k i, ga (own u) k i = ga (own σ) k i
theorem Sm3.rf {σ : MS × MS} : Sm3 σ σ := ⟨rfl, fun _ _ _ _ => rfl, fun _ => rfl, fun _ _ => rfl⟩
theorem Sm3.tr {σ u v : MS × MS} (h : Sm3 σ u) (g : Sm3 u v) : Sm3 σ v := ⟨g.1.trans h.1, fun k a b c => (g.2.1 k a b c).trans (h.2.1 k a b c), fun k => (g.2.2.1 k).trans (h.2.2.1 k), fun k i => (g.2.2.2 k i).trans (h.2.2.2 k i)⟩
theorem gi_si_ne {τ : MS} {k j : Nat} {v : Int32} (h : k ≠ j) : gi (si τ j v) k = gi τ k := if_neg h
theorem Sm3_si {σ : MS × MS} {j : Nat} {v : Int32} (hj : j = 13 ∨ j = 14 ∨ j = 15) : Sm3 σ (lsi σ j v) := ⟨rfl, fun k a b c => gi_si_ne (by omega), fun _ => rfl, fun _ _ => rfl⟩
/-- LetMe's count against the fold -/
def RS3 (σ : MS × MS) (z : Nat × Option Nat) : Prop := gi (own σ) 13 = nI z.1 ∧ match z.2 with
  | none => gi (own σ) 14 = -1
  | some b => gi (own σ) 14 = f_X6_bits (nI b) ∧ gi (own σ) 15 = nI b ∧ b < 65536
theorem s3_leaf {σ : MS × MS} {z : Nat × Option Nat} {S : Nat} (h : RS3 σ z) (hS : S < 65536) (fr : MS × MS → Int32 → Int32 → Int32 → MS × MS) (k : Int32) : RS3 (f_X0_sumsB fr σ 0 k (nI S)) (fB z S) ∧ Sm3 σ (f_X0_sumsB fr σ 0 k (nI S)) := by
  obtain ⟨h1, h2⟩ := h
  obtain ⟨c, m⟩ := z
  have e1 : gi (own σ) 13 + 1 = nI (c + 1) := by rw [h1]; exact nI_1 c
  have eb := bcb hS
  have kS := ky_rng hS
  unfold f_X0_sumsB
  rw [if_pos rfl]
  dsimp only
  have g14 : gi (own (lsi σ 13 (gi (own σ) 13 + 1))) 14 = gi (own σ) 14 := rfl
  have g15 : gi (own (lsi σ 13 (gi (own σ) 13 + 1))) 15 = gi (own σ) 15 := rfl
  rw [g14, g15, eb]
  have T : ∀ (q : Nat × Option Nat), q = (c + 1, some S) → RS3 (lsi (lsi (lsi σ 13 (gi (own σ) 13 + 1)) 14 (f_X6_bits (nI S))) 15 (nI S)) q ∧ Sm3 σ (lsi (lsi (lsi σ 13 (gi (own σ) 13 + 1)) 14 (f_X6_bits (nI S))) 15 (nI S)) := fun q hq => by
    subst hq
    exact ⟨⟨e1, rfl, rfl, hS⟩, (Sm3_si (Or.inl rfl)).tr ((Sm3_si (Or.inr (Or.inl rfl))).tr (Sm3_si (Or.inr (Or.inr rfl))))⟩
  cases m with
  | none =>
    have h2 : gi (own σ) 14 = -1 := h2
    rw [if_pos (by rw [h2]; decide)]
    exact T _ rfl
  | some b =>
    obtain ⟨h2, h3, hb⟩ : gi (own σ) 14 = f_X6_bits (nI b) ∧ gi (own σ) 15 = nI b ∧ b < 65536 := h2
    have kb := ky_rng hb
    rw [h2, h3]
    have n0 : ¬ f_X6_bits (nI b) < 0 := fun q => by have := c_lt q; rw [z_0] at this; unfold kyB at kb; omega
    have U : ∀ (q : Nat × Option Nat), q = (c + 1, some b) → RS3 (lsi σ 13 (gi (own σ) 13 + 1)) q ∧ Sm3 σ (lsi σ 13 (gi (own σ) 13 + 1)) := fun q hq => by
      subst hq
      exact ⟨⟨e1, h2, h3, hb⟩, Sm3_si (Or.inl rfl)⟩
    rw [if_neg n0]
    by_cases c1 : f_X6_bits (nI b) < f_X6_bits (nI S)
    · rw [if_pos c1]
      have := c_lt c1
      exact U _ (by unfold fB kyB; dsimp only; rw [if_neg (by omega)])
    · rw [if_neg c1]
      have c1' := c_nlt c1
      by_cases c2 : f_X6_bits (nI S) = f_X6_bits (nI b)
      · rw [if_pos c2]
        have c2' := congrArg Int32.toInt c2
        by_cases c3 : nI S < nI b
        · rw [if_pos c3]
          have := (nI_ltI (by omega) (by omega)).mp c3
          exact T _ (by unfold fB kyB; dsimp only; rw [if_pos (by omega)])
        · rw [if_neg c3]
          have : ¬ S < b := fun q => c3 ((nI_ltI (by omega) (by omega)).mpr q)
          exact U _ (by unfold fB kyB; dsimp only; rw [if_neg (by omega)])
      · rw [if_neg c2]
        have c2' : ¬ (f_X6_bits (nI S)).toInt = (f_X6_bits (nI b)).toInt := fun q => c2 (Int32.toInt_inj.mp q)
        exact T _ (by unfold fB kyB; dsimp only; rw [if_pos (by omega)])
/-- the table's prices -/
def PW (τ : MS) (w : Nat → Nat) (D : Nat) : Prop := gi τ 3 = nI D ∧ ∀ k, k < D → ga τ 9 (nI k) = nI (w k) ∧ 1 ≤ w k ∧ w k ≤ 999
theorem s3_main {τ : MS} {w : Nat → Nat} {D : Nat} (hD : D ≤ 16) (hW : PW τ w D) : ∀ (n k : Nat), k + n = D →
    (∀ (d a S : Nat) (σ : MS × MS) (z : Nat × Option Nat), n + 1 ≤ d → a < 2000000 → S < 2 ^ k → ttb σ = τ → RS3 σ z → RS3 (f_X0_sumsN d σ (nI a) (nI k) (nI S)) ((GL_ w n k a S).foldl fB z) ∧ Sm3 σ (f_X0_sumsN d σ (nI a) (nI k) (nI S))) ∧
    (∀ (d a S m : Nat) (σ : MS × MS) (z : Nat × Option Nat), n ≤ d → n < m → a < 2000000 → ¬ a = 0 → S < 2 ^ k → ttb σ = τ → RS3 σ z → RS3 (f_X0_sumsB_L69 (f_X0_sumsN d) (nI a) (nI S) m (nI k) σ).2 ((GL_ w n k a S).foldl fB z) ∧ Sm3 σ (f_X0_sumsB_L69 (f_X0_sumsN d) (nI a) (nI S) m (nI k) σ).2) := by
  intro n
  induction n with
  | zero =>
    intro k hk
    have hS16 : ∀ S, S < 2 ^ k → S < 65536 := fun S h => Nat.lt_of_lt_of_le h (Nat.pow_le_pow_right (by decide) (by omega : k ≤ 16))
    have two : ∀ (d a S m : Nat) (σ : MS × MS) (z : Nat × Option Nat), 0 < m → ¬ a = 0 → ttb σ = τ → RS3 σ z → RS3 (f_X0_sumsB_L69 (f_X0_sumsN d) (nI a) (nI S) m (nI k) σ).2 ((GL_ w 0 k a S).foldl fB z) ∧ Sm3 σ (f_X0_sumsB_L69 (f_X0_sumsN d) (nI a) (nI S) m (nI k) σ).2 := by
      intro d a S m σ z hm ha ht hz
      obtain ⟨m, rfl⟩ : ∃ q, m = q + 1 := ⟨m - 1, by omega⟩
      rw [f_X0_sumsB_L69, ht, hW.1, if_pos ((nI_leI (by omega) (by omega)).mpr (by omega)), GL_, if_neg ha]
      exact ⟨hz, Sm3.rf⟩
    refine ⟨fun d a S σ z hd ha hS ht hz => ?_, fun d a S m σ z _ hm _ ha _ ht hz => two d a S m σ z hm ha ht hz⟩
    obtain ⟨d, rfl⟩ : ∃ q, d = q + 1 := ⟨d - 1, by omega⟩
    rw [f_X0_sumsN]
    by_cases c : a = 0
    · subst c
      rw [GL_, if_pos rfl]
      exact s3_leaf hz (hS16 S hS) _ _
    · have q := two d a S 17 σ z (by omega) c ht hz
      unfold f_X0_sumsB
      rw [if_neg (show ¬ nI a = 0 from fun z9 => c ((nI_eq (by omega) (by omega)).mp (show nI a = nI 0 from z9)))]
      exact q
  | succ n ih =>
    intro k hk
    have hS16 : ∀ S, S < 2 ^ k → S < 65536 := fun S h => Nat.lt_of_lt_of_le h (Nat.pow_le_pow_right (by decide) (by omega : k ≤ 16))
    obtain ⟨i1, i2⟩ := ih (k + 1) (by omega)
    obtain ⟨w1, w2, w3⟩ := hW.2 k (by omega)
    have two : ∀ (d a S m : Nat) (σ : MS × MS) (z : Nat × Option Nat), n + 1 ≤ d → n + 1 < m → a < 2000000 → ¬ a = 0 → S < 2 ^ k → ttb σ = τ → RS3 σ z → RS3 (f_X0_sumsB_L69 (f_X0_sumsN d) (nI a) (nI S) m (nI k) σ).2 ((GL_ w (n + 1) k a S).foldl fB z) ∧ Sm3 σ (f_X0_sumsB_L69 (f_X0_sumsN d) (nI a) (nI S) m (nI k) σ).2 := by
      intro d a S m σ z hd hm ha a0 hS ht hz
      obtain ⟨m, rfl⟩ : ∃ q, m = q + 1 := ⟨m - 1, by omega⟩
      have S2 : S + 2 ^ k < 2 ^ (k + 1) := by rw [Nat.pow_succ]; omega
      have S1 : S < 2 ^ (k + 1) := by rw [Nat.pow_succ]; omega
      rw [f_X0_sumsB_L69, ht, hW.1, if_neg (fun q => by have := (nI_leI (a := D) (b := k) (by omega) (by omega)).mp q; omega), w1, GL_, if_neg a0]
      by_cases c : a < w k
      · rw [if_pos ((nI_ltI (by omega) (by omega)).mpr c), if_pos c, List.nil_append, nI_1]
        exact i2 d a S m σ z (by omega) (by omega) ha a0 S1 ht hz
      · rw [if_neg (fun q => c ((nI_ltI (by omega) (by omega)).mp q)), if_neg c]
        dsimp only
        rw [pk_sub (by omega), nI_1, or_add hS (by omega), List.foldl_append]
        obtain ⟨r1, r2⟩ := i1 d (a - w k) (S + 2 ^ k) σ z (by omega) (by omega) S2 ht hz
        obtain ⟨q1, q2⟩ := i2 d a S m _ _ (by omega) (by omega) ha a0 S1 (r2.1.trans ht) r1
        exact ⟨q1, r2.tr q2⟩
    refine ⟨fun d a S σ z hd ha hS ht hz => ?_, two⟩
    obtain ⟨d, rfl⟩ : ∃ q, d = q + 1 := ⟨d - 1, by omega⟩
    rw [f_X0_sumsN]
    by_cases c : a = 0
    · subst c
      rw [GL_, if_pos rfl]
      exact s3_leaf hz (hS16 S hS) _ _
    · have q := two d a S 17 σ z (by omega) (by omega) ha c hS ht hz
      unfold f_X0_sumsB
      rw [if_neg (show ¬ nI a = 0 from fun z9 => c ((nI_eq (by omega) (by omega)).mp (show nI a = nI 0 from z9)))]
      exact q
-- the reference goes through them one after another
/-- its count against the fold; the sets so far are below s -/
def RM3 (x y : Int32) (z : Nat × Option Nat) (s : Nat) : Prop := x = nI z.1 ∧ match z.2 with
  | none => y = -1
  | some b => y = nI b ∧ b < s
theorem sl_k : ∀ n, n < 32 → ((nI n &&& 31).toBitVec.smod 32).toNat = n := by decide +kernel
theorem shl_17 : ∀ k, k < 17 → ((1 : Int32) <<< (nI k &&& 31)) = nI (2 ^ k) := by decide +kernel
theorem bit_d {s d : Nat} (hs : s < 65536) (hd : d < 16) : ((nI s >>> (nI d &&& 31)) &&& 1) = nI (s / 2 ^ d % 2) := by
  have q := Nat.div_le_self s (2 ^ d)
  rw [pk_shrN (by omega) _ d (sl_k d (by omega)), pk_andN (by omega) 1 rfl]
theorem in_d {μ : MS} {s d : Nat} (hs : s < 65536) (hd : d < 16) : f_X6_isIn μ (nI s) (nI d) = 0 ↔ ¬ s / 2 ^ d % 2 = 1 := by
  rw [i_isIn, bit_d hs hd]
  rcases Nat.mod_two_eq_zero_or_one (s / 2 ^ d) with h | h
  · rw [h]; exact ⟨fun _ => by decide, fun _ => by decide⟩
  · rw [h]; exact ⟨fun z => absurd rfl z, fun z => absurd rfl z⟩
theorem sm_0 (w : Nat → Nat) : ∀ n k, sm w n k 0 = 0 := by
  intro n
  induction n with
  | zero => intro k; rfl
  | succ n ih => intro k; rw [sm, if_neg (by decide), Nat.zero_div, ih]
theorem sm_le (w : Nat → Nat) : ∀ n k V, (∀ j, k ≤ j → j < k + n → w j ≤ 999) → sm w n k V ≤ 999 * n := by
  intro n
  induction n with
  | zero => intro k V _; exact Nat.le_refl _
  | succ n ih =>
    intro k V h
    rw [sm]
    have a := ih (k + 1) (V / 2) (fun j p q => h j (by omega) (by omega))
    have b := h k (Nat.le_refl _) (by omega)
    split <;> omega
theorem m3_sum {μ : MS} {w : Nat → Nat} {D : Nat} (hD : D ≤ 16) (h2 : ga μ 0 2 = nI D) (hp : ∀ d, d < D → ga μ 0 (60 + 2 * nI d) = nI (w d)) (y1 y2 y3 y4 : Int32) {s : Nat} (hs : s < 65536) : ∀ (n d m x : Nat), d + n = D → n < m → (f_X6_second_L54 μ y1 y2 y3 y4 (nI s) m (nI x) (nI d)).1 = nI (x + sm w n d (s / 2 ^ d)) := by
  intro n
  induction n with
  | zero =>
    intro d m x hd hm
    obtain ⟨m, rfl⟩ : ∃ q, m = q + 1 := ⟨m - 1, by omega⟩
    rw [f_X6_second_L54, h2, if_pos ((nI_leI (by omega) (by omega)).mpr (by omega))]
    rfl
  | succ n ih =>
    intro d m x hd hm
    obtain ⟨m, rfl⟩ : ∃ q, m = q + 1 := ⟨m - 1, by omega⟩
    rw [f_X6_second_L54, h2, if_neg (fun q => by have := (nI_leI (a := D) (b := d) (by omega) (by omega)).mp q; omega)]
    dsimp only
    rw [hp d (by omega), nI_1, sm]
    have e : s / 2 ^ d / 2 = s / 2 ^ (d + 1) := by rw [Nat.div_div_eq_div_mul, Nat.pow_succ]
    have q := in_d (μ := μ) hs (show d < 16 by omega)
    rw [e]
    by_cases c : s / 2 ^ d % 2 = 1
    · rw [if_neg (fun z => q.mp z c), if_pos c, nI_add, ih (d + 1) m (x + w d) (by omega) (by omega), Nat.add_assoc]
    · rw [if_pos (q.mpr c), if_neg c, show nI x + 0 = nI (x + 0) from nI_add x 0, ih (d + 1) m (x + 0) (by omega) (by omega), Nat.add_zero, Nat.zero_add]
theorem m3_main {μ : MS} {w : Nat → Nat} {D a : Nat} (hD : D ≤ 16) (h2 : ga μ 0 2 = nI D) (hp : ∀ d, d < D → ga μ 0 (60 + 2 * nI d) = nI (w d)) (hw : ∀ d, d < D → w d ≤ 999) (ha : a < 2000000) (p2 : Int32) : ∀ (n s m : Nat) (x y : Int32) (z : Nat × Option Nat), s + n = 2 ^ D → n < m → RM3 x y z s → ∃ e : Int32, RM3 (f_X6_second_L35 μ (nI a) p2 m x y (nI s)).1 (f_X6_second_L35 μ (nI a) p2 m x y (nI s)).2.1 (((List.range' s n).filter (fun V => decide (sm w D 0 V = a))).foldl fB z) (2 ^ D) ∧ e = 0 := by
  have D16 : 2 ^ D ≤ 65536 := Nat.pow_le_pow_right (by decide) hD
  intro n
  induction n with
  | zero =>
    intro s m x y z hs hm hz
    obtain ⟨m, rfl⟩ : ∃ q, m = q + 1 := ⟨m - 1, by omega⟩
    rw [f_X6_second_L35, h2, shl_17 D (by omega), if_pos ((nI_leI (by omega) (by omega)).mpr (by omega))]
    exact ⟨0, by rw [← show s = 2 ^ D by omega]; exact hz, rfl⟩
  | succ n ih =>
    intro s m x y z hs hm hz
    obtain ⟨m, rfl⟩ : ∃ q, m = q + 1 := ⟨m - 1, by omega⟩
    rw [f_X6_second_L35, h2, shl_17 D (by omega), if_neg (fun q => by have := (nI_leI (a := 2 ^ D) (b := s) (by omega) (by omega)).mp q; omega)]
    dsimp only
    have hs16 : s < 65536 := by omega
    have es : (f_X6_second_L54 μ (nI a) p2 x y (nI s) 17 0 0).1 = nI (sm w D 0 s) := by
      have q := m3_sum hD h2 hp (nI a) p2 x y hs16 D 0 17 0 (by omega) (by omega)
      rw [Nat.pow_zero, Nat.div_one, Nat.zero_add] at q
      exact q
    have hb : sm w D 0 s < 2 ^ 31 := by
      have := sm_le w D 0 s (fun j _ q => hw j (by omega))
      omega
    rw [es, nI_1, List.range'_succ, List.filter_cons]
    by_cases c : sm w D 0 s = a
    · rw [if_pos (by rw [c]), if_pos (decide_eq_true c), List.foldl_cons]
      obtain ⟨z1, z2⟩ := z
      obtain ⟨g1, g2⟩ := hz
      have gx : x + 1 = nI (z1 + 1) := by rw [g1]; exact nI_1 z1
      cases z2 with
      | none =>
        have g2 : y = -1 := g2
        rw [if_pos g2]
        exact ih (s + 1) m _ _ _ (by omega) (by omega) ⟨gx, rfl, show s < s + 1 by omega⟩
      | some b =>
        obtain ⟨g2, g3⟩ : y = nI b ∧ b < s := g2
        have nb : ¬ y = -1 := fun q => by
          have := congrArg Int32.toInt q
          rw [g2, nI_toInt (by omega), z_m1] at this
          omega
        rw [if_neg nb, g2]
        by_cases c2 : f_X6_bits (nI b) ≤ f_X6_bits (nI s)
        · rw [if_pos c2]
          have c2' := c_le c2
          refine ih (s + 1) m _ _ _ (by omega) (by omega) ⟨gx, ?_⟩
          have : (fB (z1, some b) s).2 = some b := by unfold fB kyB; dsimp only; rw [if_neg (by omega)]
          rw [this]
          exact ⟨rfl, by omega⟩
        · rw [if_neg c2]
          have c2' := c_nle c2
          refine ih (s + 1) m _ _ _ (by omega) (by omega) ⟨gx, ?_⟩
          have : (fB (z1, some b) s).2 = some s := by unfold fB kyB; dsimp only; rw [if_pos (by omega)]
          rw [this]
          exact ⟨rfl, by omega⟩
    · rw [if_neg (fun q => c ((nI_eq hb (by omega)).mp q)), if_neg (by rw [decide_eq_false c]; decide)]
      refine ih (s + 1) m _ _ _ (by omega) (by omega) ⟨hz.1, ?_⟩
      obtain ⟨z1, z2⟩ := z
      cases z2 with
      | none => exact hz.2
      | some b => exact ⟨hz.2.1, by have := hz.2.2; omega⟩
section L13
variable {N : Int} {σ u : MS × MS} {μ : MS}
theorem RO_Sm3 (h : RO (own σ) μ) (g : Sm3 σ u) : RO (own u) μ := by
  obtain ⟨-, g1, g2, g3⟩ := g
  refine ⟨(g1 7 (by decide) (by decide) (by decide)).trans h.1, ⟨(g2 8).trans h.2.1.1, (g2 9).trans h.2.1.2⟩, ⟨(g1 2 (by decide) (by decide) (by decide)).trans h.2.2.1.1, h.2.2.1.2.1, fun j p q => (g3 1 j).trans (h.2.2.1.2.2 j p q)⟩, ⟨(g1 3 (by decide) (by decide) (by decide)).trans h.2.2.2.1.1, (g1 4 (by decide) (by decide) (by decide)).trans h.2.2.2.1.2⟩, ⟨(g1 12 (by decide) (by decide) (by decide)).trans h.2.2.2.2.1.1, (g3 16 0).trans h.2.2.2.2.1.2⟩, (g1 22 (by decide) (by decide) (by decide)).trans h.2.2.2.2.2.1, fun j p q => (g3 21 j).trans (h.2.2.2.2.2.2 j p q)⟩
theorem RL.Sm3 (h : RL N σ μ) (g : Sm3 σ u) : RL N u μ := ⟨by rw [g.1]; exact h.1, h.2.1, RO_Sm3 h.2.2 g⟩
theorem law_second (h : RL N σ μ) (p q : Int32) : AG N (f_X0_second σ p q) (f_X6_second μ p q) μ := by
  simp only [f_X0_second, f_X6_second, e_rng3 q 2 2 rfl, isFr p.toInt64]
  by_cases a0 : f_X6_isFrom p.toInt64 1 9999 = 0
  · simp only [if_pos a0, if_neg (st_1 σ)]; exact ag_ref h 1
  · simp only [if_neg a0]
    by_cases d : q < 0
    · simp only [if_pos d, if_true, if_neg (st_1 σ)]; exact ag_ref h 1
    · by_cases e : 2 < q
      · simp only [if_neg d, if_pos e, if_neg (fun z : q ≤ 2 => absurd (c_le z) (by have := c_lt e; omega)), if_true, if_neg (st_1 σ)]; exact ag_ref h 1
      · have e' := c_nlt e
        rw [z_2] at e'
        simp only [if_neg d, if_neg e, if_pos (Int32.le_iff_toInt_le.mpr (show q.toInt ≤ (2 : Int32).toInt by rw [z_2]; omega)), if_neg (show ¬ (1 : Int32) = 0 by decide), if_pos (st_0 σ)]
        have hp : 1 ≤ p.toInt ∧ p.toInt ≤ 9999 := by
          rw [← isFr, isIn_v, Int32.toInt_toInt64] at a0
          split at a0
          · rename_i c; exact c
          · exact absurd rfl a0
        obtain ⟨a, ha, rfl⟩ := small_nI (x := p) (n := 9999) (by omega)
        rw [nI_toInt (by omega)] at hp
        have hd := SL_d h.s
        obtain ⟨D, hD, h2⟩ := small_nI (x := ga μ 0 2) (n := 16) hd
        have hDi : (ga μ 0 2).toInt = (D : Int) := by rw [h2, nI_toInt (by omega)]
        have W : ∃ w : Nat → Nat, ∀ k, k < D → ga μ 0 (60 + 2 * nI k) = nI (w k) ∧ 1 ≤ w k ∧ w k ≤ 999 := by
          refine ⟨fun k => (ga μ 0 (60 + 2 * nI k)).toInt.toNat, fun k hk => ?_⟩
          have hk' : (nI k).toInt = (k : Int) := nI_toInt (by omega)
          have b1 := h.2.1.2.1 (nI k) (by omega)
          have b2 := (SL_ds h.s (d := nI k) (by omega)).1
          dsimp only
          exact ⟨(nI_of_toInt (by omega)).symm, by omega, by omega⟩
        obtain ⟨w, hw⟩ := W
        have hPW : PW (ttb σ) w D := ⟨h.t.d.trans h2, fun k hk => by
          have hk' : (nI k).toInt = (k : Int) := nI_toInt (by omega)
          have b := (h.t.di (d := nI k) (by omega) (by omega)).1
          exact ⟨b.trans (hw k hk).1, (hw k hk).2⟩⟩
        have D16 : 2 ^ D ≤ 65536 := Nat.pow_le_pow_right (by decide) hD
        have D1 : 1 ≤ 2 ^ D := Nat.one_le_two_pow
        -- LetMe
        obtain ⟨r1, r2⟩ := (s3_main hD hPW D 0 (by omega)).1 17 a 0 (lsi (lsi (lsi σ 7 0) 13 0) 14 (-1)) (0, none) (by omega) (by omega) (by decide) rfl ⟨rfl, rfl⟩
        have r2 : Sm3 (lsi σ 7 0) (f_X0_sums (lsi (lsi (lsi σ 7 0) 13 0) 14 (-1)) (nI a) 0 0) := (Sm3_si (Or.inl rfl)).tr ((Sm3_si (Or.inr (Or.inl rfl))).tr r2)
        have r1 : RS3 (f_X0_sums (lsi (lsi (lsi σ 7 0) 13 0) 14 (-1)) (nI a) 0 0) ((GL_ w D 0 a 0).foldl fB (0, none)) := r1
        -- the reference
        obtain ⟨-, t1, -⟩ := m3_main (p2 := q) hD h2 (fun d hd => (hw d hd).1) (fun d hd => (hw d hd).2.2) (show a < 2000000 by omega) (2 ^ D - 1) 1 65537 0 (-1) (0, none) (by omega) (by omega) ⟨rfl, rfl⟩
        have t1 : RM3 (f_X6_second_L35 μ (nI a) q 65537 0 (-1) 1).1 (f_X6_second_L35 μ (nI a) q 65537 0 (-1) 1).2.1 (((List.range' 1 (2 ^ D - 1)).filter (fun V => decide (sm w D 0 V = a))).foldl fB (0, none)) (2 ^ D) := t1
        -- the same sets
        have Z : (GL_ w D 0 a 0).foldl fB (0, none) = ((List.range' 1 (2 ^ D - 1)).filter (fun V => decide (sm w D 0 V = a))).foldl fB (0, none) := by
          have P := GL_perm w D 0 a 0 (fun j _ q => (hw j (by omega)).2.1)
          have er : List.range (2 ^ D) = 0 :: List.range' 1 (2 ^ D - 1) := by
            obtain ⟨n, hn⟩ : ∃ n, 2 ^ D = n + 1 := ⟨2 ^ D - 1, by omega⟩
            rw [hn, List.range_eq_range', List.range'_succ]
            rfl
          have em : ∀ L : List Nat, L.map (fun V => 0 + 2 ^ 0 * V) = L := fun L => by
            have : (fun V : Nat => 0 + 2 ^ 0 * V) = id := by funext V; show 0 + 1 * V = V; omega
            rw [this, List.map_id]
          rw [em, er, List.filter_cons, if_neg (by rw [sm_0, decide_eq_false (by omega)]; decide)] at P
          exact P.foldl_eq' (fun x _ y _ z => fB_comm z x y) _
        have len := fB_len ((List.range' 1 (2 ^ D - 1)).filter (fun V => decide (sm w D 0 V = a))) (0, none)
        have len2 : ((List.range' 1 (2 ^ D - 1)).filter (fun V => decide (sm w D 0 V = a))).length ≤ 2 ^ D - 1 := Nat.le_trans (List.length_filter_le _ _) (by rw [List.length_range']; exact Nat.le_refl _)
        rw [Z] at r1
        generalize ((List.range' 1 (2 ^ D - 1)).filter (fun V => decide (sm w D 0 V = a))).foldl fB (0, none) = z at r1 t1 len
        generalize f_X0_sums (lsi (lsi (lsi σ 7 0) 13 0) 14 (-1)) (nI a) 0 0 = v at r1 r2 ⊢
        have h0 : RL N v (si μ 2 0) := (h.st 0).Sm3 r2
        have hw0 : ∀ x, RL N (lsi v 7 x) (si μ 2 x) := fun x => by
          have := h0.st x
          rw [si_si] at this
          exact this
        have ans : ∀ x : Int32, 0 ≤ x.toInt → f_X0_answer v x = (lsi v 7 0, x) := fun x hx => by
          unfold f_X0_answer
          dsimp only
          rw [if_pos (Int32.le_iff_toInt_le.mpr (by rw [z_0]; exact hx))]
        obtain ⟨z1, z2⟩ := z
        obtain ⟨r3, r4⟩ := r1
        obtain ⟨t3, t4⟩ := t1
        have len : z1 = 0 + _ := len
        rw [t3]
        cases z2 with
        | none =>
          have r4 : gi (own v) 14 = -1 := r4
          have t4 : (f_X6_second_L35 μ (nI a) q 65537 0 (-1) 1).2.1 = -1 := t4
          rw [r4, t4, if_neg (by decide), if_pos rfl]
          have e9 : f_X0_answer v (-1) = (lsi v 7 6, -1) := by
            unfold f_X0_answer
            dsimp only
            rw [if_neg (by decide)]
          rw [e9]
          exact ⟨rfl, hw0 6, KE_si⟩
        | some b =>
          obtain ⟨r4, r5, hb⟩ : gi (own v) 14 = f_X6_bits (nI b) ∧ gi (own v) 15 = nI b ∧ b < 65536 := r4
          obtain ⟨t4, -⟩ : (f_X6_second_L35 μ (nI a) q 65537 0 (-1) 1).2.1 = nI b ∧ b < 2 ^ D := t4
          have kb := ky_rng hb
          unfold kyB at kb
          have nb : ¬ nI b = -1 := fun q => by
            have := congrArg Int32.toInt q
            rw [nI_toInt (by omega), z_m1] at this
            omega
          rw [r3, r4, r5, t4, if_neg nb, if_pos (Int32.le_iff_toInt_le.mpr (by rw [z_0]; exact kb.1))]
          by_cases q0 : q = 0
          · simp only [if_pos q0, ans _ kb.1]
            exact ⟨rfl, hw0 0, KE_si⟩
          · simp only [if_neg q0]
            by_cases q1 : q = 1
            · have len3 : z1 = 0 + _ := len
              simp only [if_pos q1, ans (nI z1) (by rw [nI_toInt (by omega)]; omega)]
              exact ⟨rfl, hw0 0, KE_si⟩
            · simp only [if_neg q1, ans (nI b) (by rw [nI_toInt (by omega)]; omega)]
              exact ⟨rfl, hw0 0, KE_si⟩
end L13
